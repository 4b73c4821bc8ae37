set_option maxRecDepth 20000
def okg_X14_isNumber (l : Launch) (E : hc_E) (A : Nat → Prop) (d : Nat) (am : Nat → Nat → Nat) (w : Nat) (a : List Int32) (σ : hc_St) (r : (Int32 × hc_St)) : Prop := match w with
  | 0 => hc_M l hc_V0 yX14_isNumber (ws_ yX14_isNumber cX14_isNumber 3 (some .boolean)) d E A [.ref (E.2.1 15), .int (a.getD 0 0)] am [] σ (.inl (some (.int r.1))) r.2
  | 1 => hc_M l hc_V0 yX14_isChain (ws_ yX14_isChain cX14_isChain 10 (some .boolean)) d E A [.ref (E.2.1 15), .int (a.getD 0 0), .int (a.getD 1 0)] am [] σ (.inl (some (.int r.1))) r.2
  | _ => True
/-- HomeCompiler$Folder.isNumber(I)Z -/
def bd_X14_isNumber (n : Nat) (k0 : Nat) (rec : Nat → List Int32 → hc_St → Option (Int32 × hc_St)) (x1 : Int32) (σ : hc_St) : Option (Int32 × hc_St) := Option.bind (fm_X6_first x1 σ) fun r1 => Option.bind (fm_X6_kind x1 σ) fun r5 => if r5 = 31 then (Option.bind (rec 0 [r1] σ) fun r9 => Option.bind (α := hc_St × Int32) (if r9.1 = 0 then (some (r9.2, 0)) else (Option.bind (α := Int32) (if (gI r9.2 15 1) = 0 then (Option.bind (fm_X6_next r1 r9.2) fun r25 => Option.bind (fm_X6_next r25 r9.2) fun r29 => some (r29)) else (Option.bind (fm_X6_next r1 r9.2) fun r33 => some (r33))) fun r21 => Option.bind (rec 0 [r21] r9.2) fun r37 => if r37.1 = 0 then (some (r37.2, 0)) else (some (r37.2, 1)))) fun r15 => hk (hb01 r15.2) <| some (r15.2, r15.1)) else if r5 = 32 then (Option.bind (rec 1 [x1, r1] σ) fun r44 => hk (hb01 r44.1) <| some (r44.1, r44.2)) else if r5 = 34 then (Option.bind (rec 0 [r1] σ) fun r49 => Option.bind (α := hc_St × Int32) (if r49.1 = 0 then (some (r49.2, 0)) else (Option.bind (fm_X6_op x1 r49.2) fun r59 => Option.bind (α := Int32) (if r59 = 43 then (some ((gI r49.2 15 1))) else (Option.bind (fm_X6_op x1 r49.2) fun r69 => if r69 = 45 then (some ((-((gI r49.2 15 1))))) else (Option.bind (fm_X6_op x1 r49.2) fun r75 => if r75 = 126 then (some ((((gI r49.2 15 1)) ^^^ ((-1))))) else (hl (α := Int32) ((if (gI r49.2 15 1) = 0 then 1 else 0)) fun v83 => Option.bind (fm_X14_truth v83 r49.2) fun r84 => some (r84))))) fun r65 => Option.bind (fm_X14_told r65 r49.2) fun r91 => if r91.1 = 0 then (some (r91.2, 0)) else (some (r91.2, 1)))) fun r55 => hk (hb01 r55.2) <| some (r55.2, r55.1)) else if r5 = 37 then (Option.bind (fm_X6_value x1 σ) fun r98 => hl (pI σ 15 1 r98) fun σ102 => some (1, σ102)) else if r5 = 38 then (Option.bind (fm_X6_number x1 σ) fun r103 => hl (pI σ 15 1 r103) fun σ107 => Option.bind (fm_X6_extra x1 σ107) fun r108 => hl (α := Int32) ((if r108 = (-2) then 1 else 0)) fun v114 => hk (hb01 v114) <| some (v114, σ107)) else (some (0, σ))
set_option maxRecDepth 20000 in
set_option maxHeartbeats 4000000 in
theorem okbX14_isNumber (l : Launch) (E : hc_E) (A : Nat → Prop) (d : Nat) {kk : Nat} (n : Nat) (k0 : Nat) (rec : Nat → List Int32 → hc_St → Option (Int32 × hc_St)) (hD : kk + 3 ≤ d) (IH : ∀ (w : Nat) (a : List Int32) (σ : hc_St) (r : (Int32 × hc_St)), rec w a σ = some r → ∀ am, okg_X14_isNumber l E A (d - 1) am w a σ r) {x1 : Int32} {σ : hc_St} {r : (Int32 × hc_St)} (h : bd_X14_isNumber n k0 rec x1 σ = some r) (am : Nat → Nat → Nat) : hc_M l hc_V0 yX14_isNumber (ws_ yX14_isNumber cX14_isNumber 3 (some .boolean)) d E A [.ref (E.2.1 15), .int x1] am [] σ (.inl (some (.int r.1))) r.2 := by
  have hd1 : 1 ≤ d := by omega
  refine hc_enter2 (own := RX14) [(0, .ref (E.2.1 15)), (1, .int x1)] pl_X14 rfl hc_V0_st hc_G0_nd rfl (Nat.le_of_ble_eq_true rfl) (fun X hC hem => ?_)
  unfold bd_X14_isNumber at h
  refine hr_aload_n hC dX14_isNumber_0 rfl ?_
  refine hr_gO 6 hC F15_0 rfl dX14_isNumber_1 q754 ?_
  refine hr_iload_n hC dX14_isNumber_4 rfl ?_
  obtain ⟨r1, e2, h⟩ := hx_bind h
  refine hs_callV0 hC 6 [_] _ dX14_isNumber_5 q2109 q1576 q1577 q320 q1578 np_X6 rfl OB_6 pd_X6_first (Nat.le_of_ble_eq_true rfl) hd1 (okX6_first l E A (d - 1)  (by omega)  e2 am) rfl ?_
  refine hr_istore_n hC dX14_isNumber_8 (by decide) ?_
  refine hr_aload_n hC dX14_isNumber_9 rfl ?_
  refine hr_gO 6 hC F15_0 rfl dX14_isNumber_10 q754 ?_
  refine hr_iload_n hC dX14_isNumber_13 rfl ?_
  obtain ⟨r5, e6, h⟩ := hx_bind h
  refine hs_callV0 hC 6 [_] _ dX14_isNumber_14 q2110 q1369 q1370 q320 q1371 np_X6 rfl OB_6 pd_X6_kind (Nat.le_of_ble_eq_true rfl) hd1 (okX6_kind l E A (d - 1)  (by omega)  e6 am) rfl ?_
  by_cases c119 : r5 = 31
  · rw [if_pos c119] at h
    refine hr_tableIn hC 208 dX14_isNumber_17 (by rw [c119] <;> decide) (by rw [c119] <;> decide) (by rw [c119] <;> rfl) (by decide) ?_
    refine hr_aload_n hC dX14_isNumber_208 rfl ?_
    refine hr_iload_n hC dX14_isNumber_209 rfl ?_
    obtain ⟨r9, e10, h⟩ := hx_bind h
    refine hs_callV0 hC 15 [_] _ dX14_isNumber_210 q2114 q2106 q2107 q328 q2108 np_X14 rfl OB_15 pd_X14_isNumber (Nat.le_of_ble_eq_true rfl) hd1 (IH _ _ _ _ e10 am) rfl ?_
    obtain ⟨r15, e16, h⟩ := hx_bind h
    have J17 : hc_At hc_V0 E 3 X 261 [] [.int r15.2] r15.1 am [] := by
      obtain ⟨c43, h⟩ := hk_ok h
      obtain rfl := Option.some.inj h
      exact hr_zret hC (hb01_n c43) dX14_isNumber_261
    clear h
    have h := e16
    refine hr_if_eq (x := _) hC 260 dX14_isNumber_213 (by decide) (fun c14 => ?_) (fun c14 => ?_)
    · rw [if_pos c14] at h
      refine hr_iconst (v := 0) hC dX14_isNumber_260 rfl ?_
      obtain rfl := Option.some.inj h
      exact hr_sub _ rfl (J17)
    · rw [if_neg c14] at h
      refine hr_aload_n hC dX14_isNumber_216 rfl ?_
      refine hr_aload_n hC dX14_isNumber_217 rfl ?_
      refine hr_gI hC F15_1 dX14_isNumber_218 q755 ?_
      obtain ⟨r21, e22, h⟩ := hx_bind h
      have J23 : hc_At hc_V0 E 3 X 250 [] [.int r21, .ref (E.2.1 15)] r9.2 am [] := by
        obtain ⟨r37, e38, h⟩ := hx_bind h
        refine hs_callV0 hC 15 [_] _ dX14_isNumber_250 q2114 q2106 q2107 q328 q2108 np_X14 rfl OB_15 pd_X14_isNumber (Nat.le_of_ble_eq_true rfl) hd1 (IH _ _ _ _ e38 am) rfl ?_
        refine hr_if_eq (x := _) hC 260 dX14_isNumber_253 (by decide) (fun c42 => ?_) (fun c42 => ?_)
        · rw [if_pos c42] at h
          refine hr_iconst (v := 0) hC dX14_isNumber_260 rfl ?_
          obtain rfl := Option.some.inj h
          exact hr_sub _ rfl (J17)
        · rw [if_neg c42] at h
          refine hr_iconst (v := 1) hC dX14_isNumber_256 rfl ?_
          refine hr_goto hC 261 dX14_isNumber_257 (by decide) ?_
          obtain rfl := Option.some.inj h
          exact hr_sub _ rfl (J17)
      clear h
      have h := e22
      refine hr_if_eq (x := _) hC 235 dX14_isNumber_221 (by decide) (fun c20 => ?_) (fun c20 => ?_)
      · rw [if_pos c20] at h
        refine hr_aload_n hC dX14_isNumber_235 rfl ?_
        refine hr_gO 6 hC F15_0 rfl dX14_isNumber_236 q754 ?_
        refine hr_aload_n hC dX14_isNumber_239 rfl ?_
        refine hr_gO 6 hC F15_0 rfl dX14_isNumber_240 q754 ?_
        refine hr_iload_n hC dX14_isNumber_243 rfl ?_
        obtain ⟨r25, e26, h⟩ := hx_bind h
        refine hs_callV0 hC 6 [_] _ dX14_isNumber_244 q2123 q1603 q1604 q320 q1605 np_X6 rfl OB_6 pd_X6_next (Nat.le_of_ble_eq_true rfl) hd1 (okX6_next l E A (d - 1)  (by omega)  e26 am) rfl ?_
        obtain ⟨r29, e30, h⟩ := hx_bind h
        refine hs_callV0 hC 6 [_] _ dX14_isNumber_247 q2123 q1603 q1604 q320 q1605 np_X6 rfl OB_6 pd_X6_next (Nat.le_of_ble_eq_true rfl) hd1 (okX6_next l E A (d - 1)  (by omega)  e30 am) rfl ?_
        obtain rfl := Option.some.inj h
        exact hr_sub _ rfl (J23)
      · rw [if_neg c20] at h
        refine hr_aload_n hC dX14_isNumber_224 rfl ?_
        refine hr_gO 6 hC F15_0 rfl dX14_isNumber_225 q754 ?_
        refine hr_iload_n hC dX14_isNumber_228 rfl ?_
        obtain ⟨r33, e34, h⟩ := hx_bind h
        refine hs_callV0 hC 6 [_] _ dX14_isNumber_229 q2123 q1603 q1604 q320 q1605 np_X6 rfl OB_6 pd_X6_next (Nat.le_of_ble_eq_true rfl) hd1 (okX6_next l E A (d - 1)  (by omega)  e34 am) rfl ?_
        refine hr_goto hC 250 dX14_isNumber_232 (by decide) ?_
        obtain rfl := Option.some.inj h
        exact hr_sub _ rfl (J23)
  rw [if_neg c119] at h
  by_cases c120 : r5 = 32
  · rw [if_pos c120] at h
    refine hr_tableIn hC 262 dX14_isNumber_17 (by rw [c120] <;> decide) (by rw [c120] <;> decide) (by rw [c120] <;> rfl) (by decide) ?_
    refine hr_aload_n hC dX14_isNumber_262 rfl ?_
    refine hr_iload_n hC dX14_isNumber_263 rfl ?_
    refine hr_iload_n hC dX14_isNumber_264 rfl ?_
    obtain ⟨r44, e45, h⟩ := hx_bind h
    refine hs_callV0 hC 15 [_, _] _ dX14_isNumber_265 q2124 q2126 qs114 q328 q2127 np_X14 rfl OB_15 pd_X14_isChain (Nat.le_of_ble_eq_true rfl) hd1 (IH _ _ _ _ e45 am) rfl ?_
    obtain ⟨c48, h⟩ := hk_ok h
    obtain rfl := Option.some.inj h
    exact hr_zret hC (hb01_n c48) dX14_isNumber_268
  rw [if_neg c120] at h
  by_cases c121 : r5 = 34
  · rw [if_pos c121] at h
    refine hr_tableIn hC 109 dX14_isNumber_17 (by rw [c121] <;> decide) (by rw [c121] <;> decide) (by rw [c121] <;> rfl) (by decide) ?_
    refine hr_aload_n hC dX14_isNumber_109 rfl ?_
    refine hr_iload_n hC dX14_isNumber_110 rfl ?_
    obtain ⟨r49, e50, h⟩ := hx_bind h
    refine hs_callV0 hC 15 [_] _ dX14_isNumber_111 q2114 q2106 q2107 q328 q2108 np_X14 rfl OB_15 pd_X14_isNumber (Nat.le_of_ble_eq_true rfl) hd1 (IH _ _ _ _ e50 am) rfl ?_
    obtain ⟨r55, e56, h⟩ := hx_bind h
    have J57 : hc_At hc_V0 E 3 X 207 [] [.int r55.2] r55.1 am [] := by
      obtain ⟨c97, h⟩ := hk_ok h
      obtain rfl := Option.some.inj h
      exact hr_zret hC (hb01_n c97) dX14_isNumber_207
    clear h
    have h := e56
    refine hr_if_eq (x := _) hC 206 dX14_isNumber_114 (by decide) (fun c54 => ?_) (fun c54 => ?_)
    · rw [if_pos c54] at h
      refine hr_iconst (v := 0) hC dX14_isNumber_206 rfl ?_
      obtain rfl := Option.some.inj h
      exact hr_sub _ rfl (J57)
    · rw [if_neg c54] at h
      refine hr_aload_n hC dX14_isNumber_117 rfl ?_
      refine hr_aload_n hC dX14_isNumber_118 rfl ?_
      refine hr_gO 6 hC F15_0 rfl dX14_isNumber_119 q754 ?_
      refine hr_iload_n hC dX14_isNumber_122 rfl ?_
      obtain ⟨r59, e60, h⟩ := hx_bind h
      refine hs_callV0 hC 6 [_] _ dX14_isNumber_123 q2115 q1639 q1640 q320 q1641 np_X6 rfl OB_6 pd_X6_op (Nat.le_of_ble_eq_true rfl) hd1 (okX6_op l E A (d - 1)  (by omega)  e60 am) rfl ?_
      refine hr_bipush (v := 43) hC dX14_isNumber_126 rfl ?_
      obtain ⟨r65, e66, h⟩ := hx_bind h
      have J67 : hc_At hc_V0 E 3 X 196 [] [.int r65, .ref (E.2.1 15)] r49.2 am [] := by
        obtain ⟨r91, e92, h⟩ := hx_bind h
        refine hs_callV0 hC 15 [_] _ dX14_isNumber_196 q2119 q2121 qs113 q328 q2122 np_X14 rfl OB_15 pd_X14_told (Nat.le_of_ble_eq_true rfl) hd1 (okX14_told l E A (d - 1)  (by omega)  e92 am) rfl ?_
        refine hr_if_eq (x := _) hC 206 dX14_isNumber_199 (by decide) (fun c96 => ?_) (fun c96 => ?_)
        · rw [if_pos c96] at h
          refine hr_iconst (v := 0) hC dX14_isNumber_206 rfl ?_
          obtain rfl := Option.some.inj h
          exact hr_sub _ rfl (J57)
        · rw [if_neg c96] at h
          refine hr_iconst (v := 1) hC dX14_isNumber_202 rfl ?_
          refine hr_goto hC 207 dX14_isNumber_203 (by decide) ?_
          obtain rfl := Option.some.inj h
          exact hr_sub _ rfl (J57)
      clear h
      have h := e66
      refine hr_icmp_ne (x := _) hC 138 dX14_isNumber_128 (by decide) (fun c64 => ?_) (fun c64 => ?_)
      · rw [if_neg c64] at h
        refine hr_aload_n hC dX14_isNumber_138 rfl ?_
        refine hr_gO 6 hC F15_0 rfl dX14_isNumber_139 q754 ?_
        refine hr_iload_n hC dX14_isNumber_142 rfl ?_
        obtain ⟨r69, e70, h⟩ := hx_bind h
        refine hs_callV0 hC 6 [_] _ dX14_isNumber_143 q2115 q1639 q1640 q320 q1641 np_X6 rfl OB_6 pd_X6_op (Nat.le_of_ble_eq_true rfl) hd1 (okX6_op l E A (d - 1)  (by omega)  e70 am) rfl ?_
        refine hr_bipush (v := 45) hC dX14_isNumber_146 rfl ?_
        refine hr_icmp_ne (x := _) hC 159 dX14_isNumber_148 (by decide) (fun c74 => ?_) (fun c74 => ?_)
        · rw [if_neg c74] at h
          refine hr_aload_n hC dX14_isNumber_159 rfl ?_
          refine hr_gO 6 hC F15_0 rfl dX14_isNumber_160 q754 ?_
          refine hr_iload_n hC dX14_isNumber_163 rfl ?_
          obtain ⟨r75, e76, h⟩ := hx_bind h
          refine hs_callV0 hC 6 [_] _ dX14_isNumber_164 q2115 q1639 q1640 q320 q1641 np_X6 rfl OB_6 pd_X6_op (Nat.le_of_ble_eq_true rfl) hd1 (okX6_op l E A (d - 1)  (by omega)  e76 am) rfl ?_
          refine hr_bipush (v := 126) hC dX14_isNumber_167 rfl ?_
          refine hr_icmp_ne (x := _) hC 181 dX14_isNumber_169 (by decide) (fun c80 => ?_) (fun c80 => ?_)
          · rw [if_neg c80] at h
            refine hr_aload_n hC dX14_isNumber_181 rfl ?_
            refine hr_gI hC F15_1 dX14_isNumber_182 q755 ?_
            obtain ⟨v83, hv83, h⟩ := hl_ok h
            have J88 : ∀ w89 : Int32, (if (gI r49.2 15 1) = 0 then 1 else 0) = w89 → hc_At hc_V0 E 3 X 193 [] [.int w89, .ref (E.2.1 15)] r49.2 am [] := by
              intro w89 hw89
              obtain rfl := hv83.trans hw89
              obtain ⟨r84, e85, h⟩ := hx_bind h
              refine hs_callS0 hC [_] _ dX14_isNumber_193 q2116 q2117 q328 q2118 np_X14 rfl pd_X14_truth (Nat.le_of_ble_eq_true rfl) hd1 (okX14_truth l E A (d - 1)  (by omega)  e85 am) rfl ?_
              obtain rfl := Option.some.inj h
              exact hr_sub _ rfl (J67)
            refine hr_if_ne (x := _) hC 192 dX14_isNumber_185 (by decide) (fun c90 => ?_) (fun c90 => ?_)
            · refine hr_iconst (v := 0) hC dX14_isNumber_192 rfl ?_
              exact hr_sub _ rfl (J88 _ (by first | (rw [if_neg c90]; done) | (simp only [if_neg c90]; done) | rfl))
            · refine hr_iconst (v := 1) hC dX14_isNumber_188 rfl ?_
              refine hr_goto hC 193 dX14_isNumber_189 (by decide) ?_
              exact hr_sub _ rfl (J88 _ (by first | (rw [if_pos c90]; done) | (simp only [if_pos c90]; done) | rfl))
          · rw [if_pos c80] at h
            refine hr_aload_n hC dX14_isNumber_172 rfl ?_
            refine hr_gI hC F15_1 dX14_isNumber_173 q755 ?_
            refine hr_iconst (v := (-1)) hC dX14_isNumber_176 rfl ?_
            refine hr_ixor hC dX14_isNumber_177 ?_
            refine hr_goto hC 196 dX14_isNumber_178 (by decide) ?_
            obtain rfl := Option.some.inj h
            exact hr_sub _ rfl (J67)
        · rw [if_pos c74] at h
          refine hr_aload_n hC dX14_isNumber_151 rfl ?_
          refine hr_gI hC F15_1 dX14_isNumber_152 q755 ?_
          refine hr_ineg hC dX14_isNumber_155 ?_
          refine hr_goto hC 196 dX14_isNumber_156 (by decide) ?_
          obtain rfl := Option.some.inj h
          exact hr_sub _ rfl (J67)
      · rw [if_pos c64] at h
        refine hr_aload_n hC dX14_isNumber_131 rfl ?_
        refine hr_gI hC F15_1 dX14_isNumber_132 q755 ?_
        refine hr_goto hC 196 dX14_isNumber_135 (by decide) ?_
        obtain rfl := Option.some.inj h
        exact hr_sub _ rfl (J67)
  rw [if_neg c121] at h
  by_cases c122 : r5 = 37
  · rw [if_pos c122] at h
    refine hr_tableIn hC 64 dX14_isNumber_17 (by rw [c122] <;> decide) (by rw [c122] <;> decide) (by rw [c122] <;> rfl) (by decide) ?_
    refine hr_aload_n hC dX14_isNumber_64 rfl ?_
    refine hr_aload_n hC dX14_isNumber_65 rfl ?_
    refine hr_gO 6 hC F15_0 rfl dX14_isNumber_66 q754 ?_
    refine hr_iload_n hC dX14_isNumber_69 rfl ?_
    obtain ⟨r98, e99, h⟩ := hx_bind h
    refine hs_callV0 hC 6 [_] _ dX14_isNumber_70 q2111 q1586 q1587 q320 q1588 np_X6 rfl OB_6 pd_X6_value (Nat.le_of_ble_eq_true rfl) hd1 (okX6_value l E A (d - 1)  (by omega)  e99 am) rfl ?_
    obtain ⟨σ102, hσ102, h⟩ := hl_ok h
    refine hr_pI hC F15_1 PX14_1 dX14_isNumber_73 q755 ?_
    rw [← hσ102]
    refine hr_iconst (v := 1) hC dX14_isNumber_76 rfl ?_
    obtain rfl := Option.some.inj h
    exact hr_zret hC rfl dX14_isNumber_77
  rw [if_neg c122] at h
  by_cases c123 : r5 = 38
  · rw [if_pos c123] at h
    refine hr_tableIn hC 78 dX14_isNumber_17 (by rw [c123] <;> decide) (by rw [c123] <;> decide) (by rw [c123] <;> rfl) (by decide) ?_
    refine hr_aload_n hC dX14_isNumber_78 rfl ?_
    refine hr_aload_n hC dX14_isNumber_79 rfl ?_
    refine hr_gO 6 hC F15_0 rfl dX14_isNumber_80 q754 ?_
    refine hr_iload_n hC dX14_isNumber_83 rfl ?_
    obtain ⟨r103, e104, h⟩ := hx_bind h
    refine hs_callV0 hC 6 [_] _ dX14_isNumber_84 q2112 q1970 q1971 q320 q1972 np_X6 rfl OB_6 pd_X6_number (Nat.le_of_ble_eq_true rfl) hd1 (okX6_number l E A (d - 1)  (by omega)  e104 am) rfl ?_
    obtain ⟨σ107, hσ107, h⟩ := hl_ok h
    refine hr_pI hC F15_1 PX14_1 dX14_isNumber_87 q755 ?_
    rw [← hσ107]
    refine hr_aload_n hC dX14_isNumber_90 rfl ?_
    refine hr_gO 6 hC F15_0 rfl dX14_isNumber_91 q754 ?_
    refine hr_iload_n hC dX14_isNumber_94 rfl ?_
    obtain ⟨r108, e109, h⟩ := hx_bind h
    refine hs_callV0 hC 6 [_] _ dX14_isNumber_95 q2113 q1687 q1688 q320 q1689 np_X6 rfl OB_6 pd_X6_extra (Nat.le_of_ble_eq_true rfl) hd1 (okX6_extra l E A (d - 1)  (by omega)  e109 am) rfl ?_
    refine hr_bipush (v := (-2)) hC dX14_isNumber_98 rfl ?_
    obtain ⟨v114, hv114, h⟩ := hl_ok h
    have J116 : ∀ w117 : Int32, (if r108 = (-2) then 1 else 0) = w117 → hc_At hc_V0 E 3 X 108 [] [.int w117] σ107 am [] := by
      intro w117 hw117
      obtain rfl := hv114.trans hw117
      obtain ⟨c115, h⟩ := hk_ok h
      obtain rfl := Option.some.inj h
      exact hr_zret hC (hb01_n c115) dX14_isNumber_108
    refine hr_icmp_ne (x := _) hC 107 dX14_isNumber_100 (by decide) (fun c118 => ?_) (fun c118 => ?_)
    · refine hr_iconst (v := 0) hC dX14_isNumber_107 rfl ?_
      exact hr_sub _ rfl (J116 _ (by first | (rw [if_neg c118]; done) | (simp only [if_neg c118]; done) | rfl))
    · refine hr_iconst (v := 1) hC dX14_isNumber_103 rfl ?_
      refine hr_goto hC 108 dX14_isNumber_104 (by decide) ?_
      exact hr_sub _ rfl (J116 _ (by first | (rw [if_pos c118]; done) | (simp only [if_pos c118]; done) | rfl))
  rw [if_neg c123] at h
  refine hr_tableD hC 269 dX14_isNumber_17 (ks := [31, 32, 34, 37, 38]) (hc_l1 (hc_ne c119 rfl) (hc_l1 (hc_ne c120 rfl) (hc_l1 (hc_ne c121 rfl) (hc_l1 (hc_ne c122 rfl) (hc_l1 (hc_ne c123 rfl) hc_l0))))) (by decide) (by decide) (by decide) ?_
  refine hr_iconst (v := 0) hC dX14_isNumber_269 rfl ?_
  obtain rfl := Option.some.inj h
  exact hr_zret hC rfl dX14_isNumber_270
def lp_X14_isChain_32 (n : Nat) (k0 : Nat) (rec : Nat → List Int32 → hc_St → Option (Int32 × hc_St)) : Nat → Int32 → Int32 → Int32 → Int32 → hc_St → Option (hc_St × Int32 × Int32)
  | 0, _, _, _, _, _ => none
  | m + 1, y3, y4, y5, y6, σ => if y6 = (-1) then (some (σ, y3, y5)) else (if y3 = 0 then (some (σ, y3, y5)) else (hl (α := Int32) ((if 2 < y4 then 1 else (if y5 = 0 then (if y4 = 1 then (if (1 : Int32) = 1 then 1 else 0) else (if (1 : Int32) = 0 then 1 else 0)) else (if y4 = 1 then (if (0 : Int32) = 1 then 1 else 0) else (if (0 : Int32) = 0 then 1 else 0))))) fun v19 => Option.bind (α := hc_St × Int32 × Int32) (if v19 = 0 then (some (σ, y3, y5)) else (Option.bind (fm_X6_first y6 σ) fun r26 => Option.bind (rec 0 [r26] σ) fun r30 => Option.bind (fm_X6_op y6 r30.2) fun r34 => Option.bind (α := Int32) (if r34 = 47 then (some (1)) else (Option.bind (fm_X6_op y6 r30.2) fun r44 => if r44 = 37 then (some (1)) else (some (0)))) fun r40 => hl (α := Int32) ((if r30.1 = 0 then 0 else (if r40 = 0 then 1 else (if (gI r30.2 15 1) = 0 then 0 else 1)))) fun v52 => Option.bind (α := Int32) (if v52 = 0 then (some (0)) else (if 3 ≤ y4 then (Option.bind (fm_X6_op y6 r30.2) fun r61 => Option.bind (fm_X14_reckon r61 y5 ((gI r30.2 15 1)) r30.2) fun r65 => some (r65)) else (hl (α := Int32) ((if (gI r30.2 15 1) = 0 then 0 else 1)) fun v71 => Option.bind (fm_X14_truth v71 r30.2) fun r72 => some (r72)))) fun r55 => some (r30.2, v52, r55))) fun r22 => Option.bind (fm_X6_next y6 r22.1) fun r84 => lp_X14_isChain_32 n k0 rec m r22.2.1 y4 r22.2.2 r84 r22.1))
/-- HomeCompiler$Folder.isChain(II)Z -/
def bd_X14_isChain (n : Nat) (k0 : Nat) (rec : Nat → List Int32 → hc_St → Option (Int32 × hc_St)) (x1 : Int32) (x2 : Int32) (σ : hc_St) : Option (Int32 × hc_St) := Option.bind (rec 0 [x2] σ) fun r1 => Option.bind (fm_X6_value x1 r1.2) fun r5 => Option.bind (fm_X6_next x2 r1.2) fun r9 => Option.bind (lp_X14_isChain_32 n k0 rec n r1.1 r5 ((gI r1.2 15 1)) r9 r1.2) fun r98 => hl (α := Int32) ((if 3 ≤ r5 then 0 else (if r98.2.1 = 0 then 0 else 1))) fun v105 => Option.bind (α := Int32) (if v105 = 0 then (some (r98.2.2)) else (hl (α := Int32) ((if r98.2.2 = 0 then 0 else 1)) fun v114 => Option.bind (fm_X14_truth v114 r98.1) fun r115 => some (r115))) fun r108 => hl (pI r98.1 15 1 r108) fun σ122 => hk (hb01 r98.2.1) <| some (r98.2.1, σ122)
set_option maxRecDepth 20000 in
set_option maxHeartbeats 4000000 in
theorem ll_X14_isChain_32 {l : Launch} {E : hc_E} {A : Nat → Prop} {am : Nat → Nat → Nat} {d : Nat} {kk : Nat} {X : hc_X} (n : Nat) (k0 : Nat) (rec : Nat → List Int32 → hc_St → Option (Int32 × hc_St)) (hD : kk + 3 ≤ d) (hem : X.2.2.2.2.2.2.2.2.2.1.exceptionTable.isEmpty = true) (IH : ∀ (w : Nat) (a : List Int32) (σ : hc_St) (r : (Int32 × hc_St)), rec w a σ = some r → ∀ am, okg_X14_isNumber l E A (d - 1) am w a σ r) {oc : hc_Oc} {σe : hc_St} (hC : hc_C hc_V0 E cX14_isChain 10 RX14 (some .boolean) d oc σe (l, A, am, []) X) : ∀ (m : Nat) (σ : hc_St) (y3 : Int32) (y4 : Int32) (y5 : Int32) (y6 : Int32) (rl : hc_St × Int32 × Int32) (am1 : Nat → Nat → Nat), lp_X14_isChain_32 n k0 rec m y3 y4 y5 y6 σ = some rl → (hc_At hc_V0 E 10 X 221 [(0, .ref (E.2.1 15)), (3, .int rl.2.1), (4, .int y4), (5, .int rl.2.2)] [] rl.1 am1 []) → hc_At hc_V0 E 10 X 32 [(0, .ref (E.2.1 15)), (3, .int y3), (4, .int y4), (5, .int y5), (6, .int y6)] [] σ am1 [] := by
  have hd1 : 1 ≤ d := by omega
  intro m
  induction m with
  | zero =>
    intro σ y3 y4 y5 y6 rl am1 h
    cases h
  | succ m ih =>
    intro σ y3 y4 y5 y6 rl am1 h JX
    rw [lp_X14_isChain_32] at h
    refine hr_iload hC dX14_isChain_32 rfl ?_
    refine hr_iconst (v := (-1)) hC dX14_isChain_34 rfl ?_
    refine hr_icmp_eq (x := _) hC 221 dX14_isChain_35 (by decide) (fun c14 => ?_) (fun c14 => ?_)
    · rw [if_pos c14] at h
      obtain rfl := Option.some.inj h
      exact hr_sub _ rfl (JX)
    · rw [if_neg c14] at h
      refine hr_iload_n hC dX14_isChain_38 rfl ?_
      refine hr_if_eq (x := _) hC 221 dX14_isChain_39 (by decide) (fun c16 => ?_) (fun c16 => ?_)
      · rw [if_pos c16] at h
        obtain rfl := Option.some.inj h
        exact hr_sub _ rfl (JX)
      · rw [if_neg c16] at h
        refine hr_iload hC dX14_isChain_42 rfl ?_
        refine hr_iconst (v := 2) hC dX14_isChain_44 rfl ?_
        obtain ⟨v19, hv19, h⟩ := hl_ok h
        have J88 : ∀ w89 : Int32, (if 2 < y4 then 1 else (if y5 = 0 then (if y4 = 1 then (if (1 : Int32) = 1 then 1 else 0) else (if (1 : Int32) = 0 then 1 else 0)) else (if y4 = 1 then (if (0 : Int32) = 1 then 1 else 0) else (if (0 : Int32) = 0 then 1 else 0)))) = w89 → hc_At hc_V0 E 10 X 77 [(0, .ref (E.2.1 15)), (3, .int y3), (4, .int y4), (5, .int y5), (6, .int y6)] [.int w89] σ am1 [] := by
          intro w89 hw89
          obtain rfl := hv19.trans hw89
          refine hr_istore hC dX14_isChain_77 (by decide) ?_
          refine hr_iload hC dX14_isChain_79 rfl ?_
          obtain ⟨r22, e23, h⟩ := hx_bind h
          have J24 : hc_At hc_V0 E 10 X 207 [(0, .ref (E.2.1 15)), (3, .int r22.2.1), (4, .int y4), (5, .int r22.2.2), (6, .int y6)] [] r22.1 am1 [] := by
            refine hr_aload_n hC dX14_isChain_207 rfl ?_
            refine hr_gO 6 hC F15_0 rfl dX14_isChain_208 q754 ?_
            refine hr_iload hC dX14_isChain_211 rfl ?_
            obtain ⟨r84, e85, h⟩ := hx_bind h
            refine hs_callV0 hC 6 [_] _ dX14_isChain_213 q2123 q1603 q1604 q320 q1605 np_X6 rfl OB_6 pd_X6_next (Nat.le_of_ble_eq_true rfl) hd1 (okX6_next l E A (d - 1)  (by omega)  e85 am1) rfl ?_
            refine hr_istore hC dX14_isChain_216 (by decide) ?_
            refine hr_goto hC 32 dX14_isChain_218 (by decide) ?_
            exact hr_sub _ rfl (ih _ _ _ _ _ _ am1 h JX)
          clear h
          have h := e23
          refine hr_if_eq (x := _) hC 207 dX14_isChain_81 (by decide) (fun c21 => ?_) (fun c21 => ?_)
          · rw [if_pos c21] at h
            obtain rfl := Option.some.inj h
            exact hr_sub _ rfl (J24)
          · rw [if_neg c21] at h
            refine hr_aload_n hC dX14_isChain_84 rfl ?_
            refine hr_aload_n hC dX14_isChain_85 rfl ?_
            refine hr_gO 6 hC F15_0 rfl dX14_isChain_86 q754 ?_
            refine hr_iload hC dX14_isChain_89 rfl ?_
            obtain ⟨r26, e27, h⟩ := hx_bind h
            refine hs_callV0 hC 6 [_] _ dX14_isChain_91 q2109 q1576 q1577 q320 q1578 np_X6 rfl OB_6 pd_X6_first (Nat.le_of_ble_eq_true rfl) hd1 (okX6_first l E A (d - 1)  (by omega)  e27 am1) rfl ?_
            obtain ⟨r30, e31, h⟩ := hx_bind h
            refine hs_callV0 hC 15 [_] _ dX14_isChain_94 q2114 q2106 q2107 q328 q2108 np_X14 rfl OB_15 pd_X14_isNumber (Nat.le_of_ble_eq_true rfl) hd1 (IH _ _ _ _ e31 am1) rfl ?_
            refine hr_istore_n hC dX14_isChain_97 (by decide) ?_
            refine hr_aload_n hC dX14_isChain_98 rfl ?_
            refine hr_gI hC F15_1 dX14_isChain_99 q755 ?_
            refine hr_istore hC dX14_isChain_102 (by decide) ?_
            refine hr_aload_n hC dX14_isChain_104 rfl ?_
            refine hr_gO 6 hC F15_0 rfl dX14_isChain_105 q754 ?_
            refine hr_iload hC dX14_isChain_108 rfl ?_
            obtain ⟨r34, e35, h⟩ := hx_bind h
            refine hs_callV0 hC 6 [_] _ dX14_isChain_110 q2115 q1639 q1640 q320 q1641 np_X6 rfl OB_6 pd_X6_op (Nat.le_of_ble_eq_true rfl) hd1 (okX6_op l E A (d - 1)  (by omega)  e35 am1) rfl ?_
            refine hr_bipush (v := 47) hC dX14_isChain_113 rfl ?_
            obtain ⟨r40, e41, h⟩ := hx_bind h
            have J42 : hc_At hc_V0 E 10 X 137 [(0, .ref (E.2.1 15)), (3, .int r30.1), (4, .int y4), (5, .int y5), (6, .int y6), (8, .int (gI r30.2 15 1))] [.int r40] r30.2 am1 [] := by
              refine hr_istore hC dX14_isChain_137 (by decide) ?_
              refine hr_iload_n hC dX14_isChain_139 rfl ?_
              obtain ⟨v52, hv52, h⟩ := hl_ok h
              have J79 : ∀ w80 : Int32, (if r30.1 = 0 then 0 else (if r40 = 0 then 1 else (if (gI r30.2 15 1) = 0 then 0 else 1))) = w80 → hc_At hc_V0 E 10 X 158 [(0, .ref (E.2.1 15)), (4, .int y4), (5, .int y5), (6, .int y6), (8, .int (gI r30.2 15 1))] [.int w80] r30.2 am1 [] := by
                intro w80 hw80
                obtain rfl := hv52.trans hw80
                refine hr_istore_n hC dX14_isChain_158 (by decide) ?_
                refine hr_iload_n hC dX14_isChain_159 rfl ?_
                obtain ⟨r55, e56, h⟩ := hx_bind h
                have J57 : hc_At hc_V0 E 10 X 205 [(0, .ref (E.2.1 15)), (3, .int v52), (4, .int y4), (6, .int y6)] [.int r55] r30.2 am1 [] := by
                  refine hr_istore hC dX14_isChain_205 (by decide) ?_
                  obtain rfl := Option.some.inj h
                  exact hr_sub _ rfl (J24)
                clear h
                have h := e56
                refine hr_if_ne (x := _) hC 167 dX14_isChain_160 (by decide) (fun c54 => ?_) (fun c54 => ?_)
                · rw [if_neg c54] at h
                  refine hr_iload hC dX14_isChain_167 rfl ?_
                  refine hr_iconst (v := 3) hC dX14_isChain_169 rfl ?_
                  refine hr_icmp_ge (x := _) hC 189 dX14_isChain_170 (by decide) (fun c60 => ?_) (fun c60 => ?_)
                  · rw [if_pos c60] at h
                    refine hr_aload_n hC dX14_isChain_189 rfl ?_
                    refine hr_gO 6 hC F15_0 rfl dX14_isChain_190 q754 ?_
                    refine hr_iload hC dX14_isChain_193 rfl ?_
                    obtain ⟨r61, e62, h⟩ := hx_bind h
                    refine hs_callV0 hC 6 [_] _ dX14_isChain_195 q2115 q1639 q1640 q320 q1641 np_X6 rfl OB_6 pd_X6_op (Nat.le_of_ble_eq_true rfl) hd1 (okX6_op l E A (d - 1)  (by omega)  e62 am1) rfl ?_
                    refine hr_iload hC dX14_isChain_198 rfl ?_
                    refine hr_iload hC dX14_isChain_200 rfl ?_
                    obtain ⟨r65, e66, h⟩ := hx_bind h
                    refine hs_callS0 hC [_, _, _] _ dX14_isChain_202 q2128 q2129 q328 q2130 np_X14 rfl pd_X14_reckon (Nat.le_of_ble_eq_true rfl) hd1 (okX14_reckon l E A (d - 1)  (by omega)  e66 am1) rfl ?_
                    obtain rfl := Option.some.inj h
                    exact hr_sub _ rfl (J57)
                  · rw [if_neg c60] at h
                    refine hr_iload hC dX14_isChain_173 rfl ?_
                    obtain ⟨v71, hv71, h⟩ := hl_ok h
                    have J76 : ∀ w77 : Int32, (if (gI r30.2 15 1) = 0 then 0 else 1) = w77 → hc_At hc_V0 E 10 X 183 [(0, .ref (E.2.1 15)), (3, .int v52), (4, .int y4), (6, .int y6)] [.int w77] r30.2 am1 [] := by
                      intro w77 hw77
                      obtain rfl := hv71.trans hw77
                      obtain ⟨r72, e73, h⟩ := hx_bind h
                      refine hs_callS0 hC [_] _ dX14_isChain_183 q2116 q2117 q328 q2118 np_X14 rfl pd_X14_truth (Nat.le_of_ble_eq_true rfl) hd1 (okX14_truth l E A (d - 1)  (by omega)  e73 am1) rfl ?_
                      refine hr_goto hC 205 dX14_isChain_186 (by decide) ?_
                      obtain rfl := Option.some.inj h
                      exact hr_sub _ rfl (J57)
                    refine hr_if_eq (x := _) hC 182 dX14_isChain_175 (by decide) (fun c78 => ?_) (fun c78 => ?_)
                    · refine hr_iconst (v := 0) hC dX14_isChain_182 rfl ?_
                      exact hr_sub _ rfl (J76 _ (by first | (rw [if_pos c78]; done) | (simp only [if_pos c78]; done) | rfl))
                    · refine hr_iconst (v := 1) hC dX14_isChain_178 rfl ?_
                      refine hr_goto hC 183 dX14_isChain_179 (by decide) ?_
                      exact hr_sub _ rfl (J76 _ (by first | (rw [if_neg c78]; done) | (simp only [if_neg c78]; done) | rfl))
                · rw [if_pos c54] at h
                  refine hr_iconst (v := 0) hC dX14_isChain_163 rfl ?_
                  refine hr_goto hC 205 dX14_isChain_164 (by decide) ?_
                  obtain rfl := Option.some.inj h
                  exact hr_sub _ rfl (J57)
              refine hr_if_eq (x := _) hC 157 dX14_isChain_140 (by decide) (fun c81 => ?_) (fun c81 => ?_)
              · refine hr_iconst (v := 0) hC dX14_isChain_157 rfl ?_
                exact hr_sub _ rfl (J79 _ (by first | (rw [if_pos c81]; done) | (simp only [if_pos c81]; done) | rfl))
              · refine hr_iload hC dX14_isChain_143 rfl ?_
                refine hr_if_eq (x := _) hC 153 dX14_isChain_145 (by decide) (fun c82 => ?_) (fun c82 => ?_)
                · refine hr_iconst (v := 1) hC dX14_isChain_153 rfl ?_
                  refine hr_goto hC 158 dX14_isChain_154 (by decide) ?_
                  exact hr_sub _ rfl (J79 _ (by first | (rw [if_neg c81, if_pos c82]; done) | (simp only [if_neg c81, if_pos c82]; done) | rfl))
                · refine hr_iload hC dX14_isChain_148 rfl ?_
                  refine hr_if_eq (x := _) hC 157 dX14_isChain_150 (by decide) (fun c83 => ?_) (fun c83 => ?_)
                  · refine hr_iconst (v := 0) hC dX14_isChain_157 rfl ?_
                    exact hr_sub _ rfl (J79 _ (by first | (rw [if_neg c81, if_neg c82, if_pos c83]; done) | (simp only [if_neg c81, if_neg c82, if_pos c83]; done) | rfl))
                  · refine hr_iconst (v := 1) hC dX14_isChain_153 rfl ?_
                    refine hr_goto hC 158 dX14_isChain_154 (by decide) ?_
                    exact hr_sub _ rfl (J79 _ (by first | (rw [if_neg c81, if_neg c82, if_neg c83]; done) | (simp only [if_neg c81, if_neg c82, if_neg c83]; done) | rfl))
            clear h
            have h := e41
            refine hr_icmp_eq (x := _) hC 132 dX14_isChain_115 (by decide) (fun c39 => ?_) (fun c39 => ?_)
            · rw [if_pos c39] at h
              refine hr_iconst (v := 1) hC dX14_isChain_132 rfl ?_
              refine hr_goto hC 137 dX14_isChain_133 (by decide) ?_
              obtain rfl := Option.some.inj h
              exact hr_sub _ rfl (J42)
            · rw [if_neg c39] at h
              refine hr_aload_n hC dX14_isChain_118 rfl ?_
              refine hr_gO 6 hC F15_0 rfl dX14_isChain_119 q754 ?_
              refine hr_iload hC dX14_isChain_122 rfl ?_
              obtain ⟨r44, e45, h⟩ := hx_bind h
              refine hs_callV0 hC 6 [_] _ dX14_isChain_124 q2115 q1639 q1640 q320 q1641 np_X6 rfl OB_6 pd_X6_op (Nat.le_of_ble_eq_true rfl) hd1 (okX6_op l E A (d - 1)  (by omega)  e45 am1) rfl ?_
              refine hr_bipush (v := 37) hC dX14_isChain_127 rfl ?_
              refine hr_icmp_ne (x := _) hC 136 dX14_isChain_129 (by decide) (fun c49 => ?_) (fun c49 => ?_)
              · rw [if_neg c49] at h
                refine hr_iconst (v := 0) hC dX14_isChain_136 rfl ?_
                obtain rfl := Option.some.inj h
                exact hr_sub _ rfl (J42)
              · rw [if_pos c49] at h
                refine hr_iconst (v := 1) hC dX14_isChain_132 rfl ?_
                refine hr_goto hC 137 dX14_isChain_133 (by decide) ?_
                obtain rfl := Option.some.inj h
                exact hr_sub _ rfl (J42)
        refine hr_icmp_gt (x := _) hC 72 dX14_isChain_45 (by decide) (fun c90 => ?_) (fun c90 => ?_)
        · refine hr_iconst (v := 1) hC dX14_isChain_72 rfl ?_
          refine hr_goto hC 77 dX14_isChain_73 (by decide) ?_
          exact hr_sub _ rfl (J88 _ (by first | (rw [if_pos c90]; done) | (simp only [if_pos c90]; done) | rfl))
        · refine hr_iload hC dX14_isChain_48 rfl ?_
          refine hr_if_ne (x := _) hC 57 dX14_isChain_50 (by decide) (fun c91 => ?_) (fun c91 => ?_)
          · refine hr_iconst (v := 0) hC dX14_isChain_57 rfl ?_
            refine hr_iload hC dX14_isChain_58 rfl ?_
            refine hr_iconst (v := 1) hC dX14_isChain_60 rfl ?_
            refine hr_icmp_ne (x := _) hC 68 dX14_isChain_61 (by decide) (fun c92 => ?_) (fun c92 => ?_)
            · refine hr_iconst (v := 0) hC dX14_isChain_68 rfl ?_
              refine hr_icmp_ne (x := _) hC 76 dX14_isChain_69 (by decide) (fun c93 => ?_) (fun c93 => ?_)
              · refine hr_iconst (v := 0) hC dX14_isChain_76 rfl ?_
                exact hr_sub _ rfl (J88 _ (by first | (rw [if_neg c90, if_neg c91, if_neg c92, if_neg c93]; done) | (simp only [if_neg c90, if_neg c91, if_neg c92, if_neg c93]; done) | rfl))
              · refine hr_iconst (v := 1) hC dX14_isChain_72 rfl ?_
                refine hr_goto hC 77 dX14_isChain_73 (by decide) ?_
                exact hr_sub _ rfl (J88 _ (by first | (rw [if_neg c90, if_neg c91, if_neg c92, if_pos c93]; done) | (simp only [if_neg c90, if_neg c91, if_neg c92, if_pos c93]; done) | rfl))
            · refine hr_iconst (v := 1) hC dX14_isChain_64 rfl ?_
              refine hr_goto hC 69 dX14_isChain_65 (by decide) ?_
              refine hr_icmp_ne (x := _) hC 76 dX14_isChain_69 (by decide) (fun c94 => ?_) (fun c94 => ?_)
              · refine hr_iconst (v := 0) hC dX14_isChain_76 rfl ?_
                exact hr_sub _ rfl (J88 _ (by first | (rw [if_neg c90, if_neg c91, if_pos c92, if_neg c94]; done) | (simp only [if_neg c90, if_neg c91, if_pos c92, if_neg c94]; done) | rfl))
              · refine hr_iconst (v := 1) hC dX14_isChain_72 rfl ?_
                refine hr_goto hC 77 dX14_isChain_73 (by decide) ?_
                exact hr_sub _ rfl (J88 _ (by first | (rw [if_neg c90, if_neg c91, if_pos c92, if_pos c94]; done) | (simp only [if_neg c90, if_neg c91, if_pos c92, if_pos c94]; done) | rfl))
          · refine hr_iconst (v := 1) hC dX14_isChain_53 rfl ?_
            refine hr_goto hC 58 dX14_isChain_54 (by decide) ?_
            refine hr_iload hC dX14_isChain_58 rfl ?_
            refine hr_iconst (v := 1) hC dX14_isChain_60 rfl ?_
            refine hr_icmp_ne (x := _) hC 68 dX14_isChain_61 (by decide) (fun c95 => ?_) (fun c95 => ?_)
            · refine hr_iconst (v := 0) hC dX14_isChain_68 rfl ?_
              refine hr_icmp_ne (x := _) hC 76 dX14_isChain_69 (by decide) (fun c96 => ?_) (fun c96 => ?_)
              · refine hr_iconst (v := 0) hC dX14_isChain_76 rfl ?_
                exact hr_sub _ rfl (J88 _ (by first | (rw [if_neg c90, if_pos c91, if_neg c95, if_neg c96]; done) | (simp only [if_neg c90, if_pos c91, if_neg c95, if_neg c96]; done) | rfl))
              · refine hr_iconst (v := 1) hC dX14_isChain_72 rfl ?_
                refine hr_goto hC 77 dX14_isChain_73 (by decide) ?_
                exact hr_sub _ rfl (J88 _ (by first | (rw [if_neg c90, if_pos c91, if_neg c95, if_pos c96]; done) | (simp only [if_neg c90, if_pos c91, if_neg c95, if_pos c96]; done) | rfl))
            · refine hr_iconst (v := 1) hC dX14_isChain_64 rfl ?_
              refine hr_goto hC 69 dX14_isChain_65 (by decide) ?_
              refine hr_icmp_ne (x := _) hC 76 dX14_isChain_69 (by decide) (fun c97 => ?_) (fun c97 => ?_)
              · refine hr_iconst (v := 0) hC dX14_isChain_76 rfl ?_
                exact hr_sub _ rfl (J88 _ (by first | (rw [if_neg c90, if_pos c91, if_pos c95, if_neg c97]; done) | (simp only [if_neg c90, if_pos c91, if_pos c95, if_neg c97]; done) | rfl))
              · refine hr_iconst (v := 1) hC dX14_isChain_72 rfl ?_
                refine hr_goto hC 77 dX14_isChain_73 (by decide) ?_
                exact hr_sub _ rfl (J88 _ (by first | (rw [if_neg c90, if_pos c91, if_pos c95, if_pos c97]; done) | (simp only [if_neg c90, if_pos c91, if_pos c95, if_pos c97]; done) | rfl))
set_option maxRecDepth 20000 in
set_option maxHeartbeats 4000000 in
theorem okbX14_isChain (l : Launch) (E : hc_E) (A : Nat → Prop) (d : Nat) {kk : Nat} (n : Nat) (k0 : Nat) (rec : Nat → List Int32 → hc_St → Option (Int32 × hc_St)) (hD : kk + 3 ≤ d) (IH : ∀ (w : Nat) (a : List Int32) (σ : hc_St) (r : (Int32 × hc_St)), rec w a σ = some r → ∀ am, okg_X14_isNumber l E A (d - 1) am w a σ r) {x1 : Int32} {x2 : Int32} {σ : hc_St} {r : (Int32 × hc_St)} (h : bd_X14_isChain n k0 rec x1 x2 σ = some r) (am : Nat → Nat → Nat) : hc_M l hc_V0 yX14_isChain (ws_ yX14_isChain cX14_isChain 10 (some .boolean)) d E A [.ref (E.2.1 15), .int x1, .int x2] am [] σ (.inl (some (.int r.1))) r.2 := by
  have hd1 : 1 ≤ d := by omega
  refine hc_enter2 (own := RX14) [(0, .ref (E.2.1 15)), (1, .int x1), (2, .int x2)] pl_X14 rfl hc_V0_st hc_G0_nd rfl (Nat.le_of_ble_eq_true rfl) (fun X hC hem => ?_)
  unfold bd_X14_isChain at h
  refine hr_aload_n hC dX14_isChain_0 rfl ?_
  refine hr_iload_n hC dX14_isChain_1 rfl ?_
  obtain ⟨r1, e2, h⟩ := hx_bind h
  refine hs_callV0 hC 15 [_] _ dX14_isChain_2 q2114 q2106 q2107 q328 q2108 np_X14 rfl OB_15 pd_X14_isNumber (Nat.le_of_ble_eq_true rfl) hd1 (IH _ _ _ _ e2 am) rfl ?_
  refine hr_istore_n hC dX14_isChain_5 (by decide) ?_
  refine hr_aload_n hC dX14_isChain_6 rfl ?_
  refine hr_gO 6 hC F15_0 rfl dX14_isChain_7 q754 ?_
  refine hr_iload_n hC dX14_isChain_10 rfl ?_
  obtain ⟨r5, e6, h⟩ := hx_bind h
  refine hs_callV0 hC 6 [_] _ dX14_isChain_11 q2111 q1586 q1587 q320 q1588 np_X6 rfl OB_6 pd_X6_value (Nat.le_of_ble_eq_true rfl) hd1 (okX6_value l E A (d - 1)  (by omega)  e6 am) rfl ?_
  refine hr_istore hC dX14_isChain_14 (by decide) ?_
  refine hr_aload_n hC dX14_isChain_16 rfl ?_
  refine hr_gI hC F15_1 dX14_isChain_17 q755 ?_
  refine hr_istore hC dX14_isChain_20 (by decide) ?_
  refine hr_aload_n hC dX14_isChain_22 rfl ?_
  refine hr_gO 6 hC F15_0 rfl dX14_isChain_23 q754 ?_
  refine hr_iload_n hC dX14_isChain_26 rfl ?_
  obtain ⟨r9, e10, h⟩ := hx_bind h
  refine hs_callV0 hC 6 [_] _ dX14_isChain_27 q2123 q1603 q1604 q320 q1605 np_X6 rfl OB_6 pd_X6_next (Nat.le_of_ble_eq_true rfl) hd1 (okX6_next l E A (d - 1)  (by omega)  e10 am) rfl ?_
  refine hr_istore hC dX14_isChain_30 (by decide) ?_
  obtain ⟨r98, e99, h⟩ := hx_bind h
  refine hr_sub _ rfl (ll_X14_isChain_32 n k0 rec hD hem IH hC n _ _ _ _ _ _ am e99 ?_)
  refine hr_iload hC dX14_isChain_221 rfl ?_
  refine hr_iconst (v := 3) hC dX14_isChain_223 rfl ?_
  obtain ⟨v105, hv105, h⟩ := hl_ok h
  have J124 : ∀ w125 : Int32, (if 3 ≤ r5 then 0 else (if r98.2.1 = 0 then 0 else 1)) = w125 → hc_At hc_V0 E 10 X 236 [(0, .ref (E.2.1 15)), (3, .int r98.2.1), (5, .int r98.2.2)] [.int w125] r98.1 am [] := by
    intro w125 hw125
    obtain rfl := hv105.trans hw125
    refine hr_istore hC dX14_isChain_236 (by decide) ?_
    refine hr_aload_n hC dX14_isChain_238 rfl ?_
    refine hr_iload hC dX14_isChain_239 rfl ?_
    obtain ⟨r108, e109, h⟩ := hx_bind h
    have J110 : hc_At hc_V0 E 10 X 262 [(3, .int r98.2.1)] [.int r108, .ref (E.2.1 15)] r98.1 am [] := by
      obtain ⟨σ122, hσ122, h⟩ := hl_ok h
      refine hr_pI hC F15_1 PX14_1 dX14_isChain_262 q755 ?_
      rw [← hσ122]
      refine hr_iload_n hC dX14_isChain_265 rfl ?_
      obtain ⟨c123, h⟩ := hk_ok h
      obtain rfl := Option.some.inj h
      exact hr_zret hC (hb01_n c123) dX14_isChain_266
    clear h
    have h := e109
    refine hr_if_eq (x := _) hC 260 dX14_isChain_241 (by decide) (fun c107 => ?_) (fun c107 => ?_)
    · rw [if_pos c107] at h
      refine hr_iload hC dX14_isChain_260 rfl ?_
      obtain rfl := Option.some.inj h
      exact hr_sub _ rfl (J110)
    · rw [if_neg c107] at h
      refine hr_iload hC dX14_isChain_244 rfl ?_
      obtain ⟨v114, hv114, h⟩ := hl_ok h
      have J119 : ∀ w120 : Int32, (if r98.2.2 = 0 then 0 else 1) = w120 → hc_At hc_V0 E 10 X 254 [(3, .int r98.2.1)] [.int w120, .ref (E.2.1 15)] r98.1 am [] := by
        intro w120 hw120
        obtain rfl := hv114.trans hw120
        obtain ⟨r115, e116, h⟩ := hx_bind h
        refine hs_callS0 hC [_] _ dX14_isChain_254 q2116 q2117 q328 q2118 np_X14 rfl pd_X14_truth (Nat.le_of_ble_eq_true rfl) hd1 (okX14_truth l E A (d - 1)  (by omega)  e116 am) rfl ?_
        refine hr_goto hC 262 dX14_isChain_257 (by decide) ?_
        obtain rfl := Option.some.inj h
        exact hr_sub _ rfl (J110)
      refine hr_if_eq (x := _) hC 253 dX14_isChain_246 (by decide) (fun c121 => ?_) (fun c121 => ?_)
      · refine hr_iconst (v := 0) hC dX14_isChain_253 rfl ?_
        exact hr_sub _ rfl (J119 _ (by first | (rw [if_pos c121]; done) | (simp only [if_pos c121]; done) | rfl))
      · refine hr_iconst (v := 1) hC dX14_isChain_249 rfl ?_
        refine hr_goto hC 254 dX14_isChain_250 (by decide) ?_
        exact hr_sub _ rfl (J119 _ (by first | (rw [if_neg c121]; done) | (simp only [if_neg c121]; done) | rfl))
  refine hr_icmp_ge (x := _) hC 235 dX14_isChain_224 (by decide) (fun c126 => ?_) (fun c126 => ?_)
  · refine hr_iconst (v := 0) hC dX14_isChain_235 rfl ?_
    exact hr_sub _ rfl (J124 _ (by first | (rw [if_pos c126]; done) | (simp only [if_pos c126]; done) | rfl))
  · refine hr_iload_n hC dX14_isChain_227 rfl ?_
    refine hr_if_eq (x := _) hC 235 dX14_isChain_228 (by decide) (fun c127 => ?_) (fun c127 => ?_)
    · refine hr_iconst (v := 0) hC dX14_isChain_235 rfl ?_
      exact hr_sub _ rfl (J124 _ (by first | (rw [if_neg c126, if_pos c127]; done) | (simp only [if_neg c126, if_pos c127]; done) | rfl))
    · refine hr_iconst (v := 1) hC dX14_isChain_231 rfl ?_
      refine hr_goto hC 236 dX14_isChain_232 (by decide) ?_
      exact hr_sub _ rfl (J124 _ (by first | (rw [if_neg c126, if_neg c127]; done) | (simp only [if_neg c126, if_neg c127]; done) | rfl))
def rc_X14_isNumber (n : Nat) (k0 : Nat) : Nat → Nat → List Int32 → hc_St → Option (Int32 × hc_St)
  | 0, _, _, _ => none
  | k + 1, w, a, σ => match w with
    | 0 => bd_X14_isNumber n k0 (rc_X14_isNumber n k0 k) (a.getD 0 0) σ
    | 1 => bd_X14_isChain n k0 (rc_X14_isNumber n k0 k) (a.getD 0 0) (a.getD 1 0) σ
    | _ => none
theorem okr_X14_isNumber (l : Launch) (E : hc_E) (A : Nat → Prop) (n : Nat) (k0 : Nat) : ∀ (k d : Nat), k + 3 ≤ d → ∀ (w : Nat) (a : List Int32) (σ : hc_St) (r : (Int32 × hc_St)), rc_X14_isNumber n k0 k w a σ = some r → ∀ am, okg_X14_isNumber l E A d am w a σ r
  | 0, d, _, w, a, σ, r, h, am => by cases h
  | k + 1, d, hd, w, a, σ, r, h, am => by
    have IH := okr_X14_isNumber l E A n k0 k (d - 1) (by omega)
    match w, h with
    | 0, h => exact okbX14_isNumber l E A d (kk := k) n k0 (rc_X14_isNumber n k0 k) (by omega) IH h am
    | 1, h => exact okbX14_isChain l E A d (kk := k) n k0 (rc_X14_isNumber n k0 k) (by omega) IH h am
    | w + 2, h => trivial
def fm_X14_isNumber (n : Nat) (k0 : Nat) (x1 : Int32) (σ : hc_St) : Option (Int32 × hc_St) := rc_X14_isNumber n k0 k0 0 [x1] σ
theorem okX14_isNumber (l : Launch) (E : hc_E) (A : Nat → Prop) (d : Nat) (n : Nat) (k0 : Nat) (hD : k0 + 3 ≤ d)  {x1 : Int32} {σ : hc_St} {r : (Int32 × hc_St)} (h : fm_X14_isNumber n k0 x1 σ = some r) (am : Nat → Nat → Nat) : hc_M l hc_V0 yX14_isNumber (ws_ yX14_isNumber cX14_isNumber 3 (some .boolean)) d E A [.ref (E.2.1 15), .int x1] am [] σ (.inl (some (.int r.1))) r.2 := okr_X14_isNumber l E A n k0 k0 d hD 0 _ _ _ h am
def fm_X14_isChain (n : Nat) (k0 : Nat) (x1 : Int32) (x2 : Int32) (σ : hc_St) : Option (Int32 × hc_St) := rc_X14_isNumber n k0 k0 1 [x1, x2] σ
theorem okX14_isChain (l : Launch) (E : hc_E) (A : Nat → Prop) (d : Nat) (n : Nat) (k0 : Nat) (hD : k0 + 3 ≤ d)  {x1 : Int32} {x2 : Int32} {σ : hc_St} {r : (Int32 × hc_St)} (h : fm_X14_isChain n k0 x1 x2 σ = some r) (am : Nat → Nat → Nat) : hc_M l hc_V0 yX14_isChain (ws_ yX14_isChain cX14_isChain 10 (some .boolean)) d E A [.ref (E.2.1 15), .int x1, .int x2] am [] σ (.inl (some (.int r.1))) r.2 := okr_X14_isNumber l E A n k0 k0 d hD 1 _ _ _ h am
/-- HomeCompiler$Folder.value()I -/
def fm_X14_value   (σ : hc_St) : Option Int32 := some ((gI σ 15 1))
set_option maxRecDepth 20000 in
set_option maxHeartbeats 4000000 in
theorem okX14_value (l : Launch) (E : hc_E) (A : Nat → Prop) (d : Nat)  (hD : 1 ≤ d)  {σ : hc_St} {r : Int32} (h : fm_X14_value   σ = some r) (am : Nat → Nat → Nat) : hc_M l hc_V0 yX14_value (ws_ yX14_value cX14_value 1 (some .int)) d E A [.ref (E.2.1 15)] am [] σ (.inl (some (.int r))) σ := by
  have hd1 : 1 ≤ d := by omega
  refine hc_enter2 (own := RX14) [(0, .ref (E.2.1 15))] pl_X14 rfl hc_V0_st hc_G0_nd rfl (Nat.le_of_ble_eq_true rfl) (fun X hC hem => ?_)
  unfold fm_X14_value at h
  refine hr_aload_n hC dX14_value_0 rfl ?_
  refine hr_gI hC F15_1 dX14_value_1 q755 ?_
  obtain rfl := Option.some.inj h
  exact hr_iret hC dX14_value_4
/-- HomeCompiler$Generator.temp(I)I -/
def fm_X13_temp  (x0 : Int32) (σ : hc_St) : Option Int32 := hl (α := Int32) ((if 4 ≤ x0 then (6 + x0) else (28 + x0))) fun v3 => some v3
set_option maxRecDepth 20000 in
set_option maxHeartbeats 4000000 in
theorem okX13_temp (l : Launch) (E : hc_E) (A : Nat → Prop) (d : Nat)  (hD : 1 ≤ d) {x0 : Int32} {σ : hc_St} {r : Int32} (h : fm_X13_temp  x0 σ = some r) (am : Nat → Nat → Nat) : hc_M l hc_V0 yX13_temp (ws_ yX13_temp cX13_temp 1 (some .int)) d E A [.int x0] am [] σ (.inl (some (.int r))) σ := by
  have hd1 : 1 ≤ d := by omega
  refine hc_enter2 (own := RX13) [(0, .int x0)] pl_X13 rfl hc_V0_st hc_G0_nd rfl (Nat.le_of_ble_eq_true rfl) (fun X hC hem => ?_)
  unfold fm_X13_temp at h
  refine hr_iload_n hC dX13_temp_0 rfl ?_
  refine hr_iconst (v := 4) hC dX13_temp_1 rfl ?_
  obtain ⟨v3, hv3, h⟩ := hl_ok h
  have J4 : ∀ w5 : Int32, (if 4 ≤ x0 then (6 + x0) else (28 + x0)) = w5 → hc_At hc_V0 E 1 X 16 [] [.int w5] σ am [] := by
    intro w5 hw5
    obtain rfl := hv3.trans hw5
    obtain rfl := Option.some.inj h
    exact hr_iret hC dX13_temp_16
  refine hr_icmp_ge (x := _) hC 12 dX13_temp_2 (by decide) (fun c6 => ?_) (fun c6 => ?_)
  · refine hr_bipush (v := 6) hC dX13_temp_12 rfl ?_
    refine hr_iload_n hC dX13_temp_14 rfl ?_
    refine hr_iadd hC dX13_temp_15 ?_
    exact hr_sub _ rfl (J4 _ (by first | (rw [if_pos c6]; done) | (simp only [if_pos c6]; done) | rfl))
  · refine hr_bipush (v := 28) hC dX13_temp_5 rfl ?_
    refine hr_iload_n hC dX13_temp_7 rfl ?_
    refine hr_iadd hC dX13_temp_8 ?_
    refine hr_goto hC 16 dX13_temp_9 (by decide) ?_
    exact hr_sub _ rfl (J4 _ (by first | (rw [if_neg c6]; done) | (simp only [if_neg c6]; done) | rfl))
/-- HomeCompiler$Generator.dest(I)I -/
def fm_X13_dest  (x1 : Int32) (σ : hc_St) : Option Int32 := Option.bind (α := Int32) (if 12 ≤ x1 then (some (5)) else (Option.bind (fm_X13_temp x1 σ) fun r7 => some (r7))) fun r3 => some r3
set_option maxRecDepth 20000 in
set_option maxHeartbeats 4000000 in
theorem okX13_dest (l : Launch) (E : hc_E) (A : Nat → Prop) (d : Nat)  (hD : 2 ≤ d) {x1 : Int32} {σ : hc_St} {r : Int32} (h : fm_X13_dest  x1 σ = some r) (am : Nat → Nat → Nat) : hc_M l hc_V0 yX13_dest (ws_ yX13_dest cX13_dest 2 (some .int)) d E A [.ref (E.2.1 14), .int x1] am [] σ (.inl (some (.int r))) σ := by
  have hd1 : 1 ≤ d := by omega
  refine hc_enter2 (own := RX13) [(0, .ref (E.2.1 14)), (1, .int x1)] pl_X13 rfl hc_V0_st hc_G0_nd rfl (Nat.le_of_ble_eq_true rfl) (fun X hC hem => ?_)
  unfold fm_X13_dest at h
  refine hr_iload_n hC dX13_dest_0 rfl ?_
  refine hr_bipush (v := 12) hC dX13_dest_1 rfl ?_
  obtain ⟨r3, e4, h⟩ := hx_bind h
  have J5 : hc_At hc_V0 E 2 X 14 [] [.int r3] σ am [] := by
    obtain rfl := Option.some.inj h
    exact hr_iret hC dX13_dest_14
  clear h
  have h := e4
  refine hr_icmp_ge (x := _) hC 13 dX13_dest_3 (by decide) (fun c2 => ?_) (fun c2 => ?_)
  · rw [if_pos c2] at h
    refine hr_iconst (v := 5) hC dX13_dest_13 rfl ?_
    obtain rfl := Option.some.inj h
    exact hr_sub _ rfl (J5)
  · rw [if_neg c2] at h
    refine hr_iload_n hC dX13_dest_6 rfl ?_
    obtain ⟨r7, e8, h⟩ := hx_bind h
    refine hs_callS0 hC [_] _ dX13_dest_7 q2139 q2140 q327 q2141 np_X13 rfl pd_X13_temp (Nat.le_of_ble_eq_true rfl) hd1 (okX13_temp l E A (d - 1)  (by omega)  e8 am) rfl ?_
    refine hr_goto hC 14 dX13_dest_10 (by decide) ?_
    obtain rfl := Option.some.inj h
    exact hr_sub _ rfl (J5)
/-- HomeCompiler$Generator.met(I)V -/
def fm_X13_met  (x1 : Int32) (σ : hc_St) : Option hc_St := hl (pI σ 14 11 ((jmax ((gI σ 14 11)) ((x1 + 1))))) fun σ2 => some σ2
set_option maxRecDepth 20000 in
set_option maxHeartbeats 4000000 in
theorem okX13_met (l : Launch) (E : hc_E) (A : Nat → Prop) (d : Nat)  (hD : 2 ≤ d) {x1 : Int32} {σ : hc_St} {r : hc_St} (h : fm_X13_met  x1 σ = some r) (am : Nat → Nat → Nat) : hc_M l hc_V0 yX13_met (ws_ yX13_met cX13_met 2 none) d E A [.ref (E.2.1 14), .int x1] am [] σ (.inl none) r := by
  have hd1 : 1 ≤ d := by omega
  refine hc_enter2 (own := RX13) [(0, .ref (E.2.1 14)), (1, .int x1)] pl_X13 rfl hc_V0_st hc_G0_nd rfl (Nat.le_of_ble_eq_true rfl) (fun X hC hem => ?_)
  unfold fm_X13_met at h
  refine hr_aload_n hC dX13_met_0 rfl ?_
  refine hr_aload_n hC dX13_met_1 rfl ?_
  refine hr_gI hC F14_11 dX13_met_2 q806 ?_
  refine hr_iload_n hC dX13_met_5 rfl ?_
  refine hr_iconst (v := 1) hC dX13_met_6 rfl ?_
  refine hr_iadd hC dX13_met_7 ?_
  refine hr_max hC dX13_met_8 q2150 hd1 (Nat.le_of_ble_eq_true rfl) ?_
  obtain ⟨σ2, hσ2, h⟩ := hl_ok h
  refine hr_pI hC F14_11 PX13_11 dX13_met_11 q806 ?_
  rw [← hσ2]
  obtain rfl := Option.some.inj h
  exact hr_vret hC dX13_met_14
/-- HomeCompiler$Generator.slot(I)I -/
def fm_X13_slot  (x0 : Int32) (σ : hc_St) : Option Int32 := some ((4 * x0))
set_option maxRecDepth 20000 in
set_option maxHeartbeats 4000000 in
theorem okX13_slot (l : Launch) (E : hc_E) (A : Nat → Prop) (d : Nat)  (hD : 1 ≤ d) {x0 : Int32} {σ : hc_St} {r : Int32} (h : fm_X13_slot  x0 σ = some r) (am : Nat → Nat → Nat) : hc_M l hc_V0 yX13_slot (ws_ yX13_slot cX13_slot 1 (some .int)) d E A [.int x0] am [] σ (.inl (some (.int r))) σ := by
  have hd1 : 1 ≤ d := by omega
  refine hc_enter2 (own := RX13) [(0, .int x0)] pl_X13 rfl hc_V0_st hc_G0_nd rfl (Nat.le_of_ble_eq_true rfl) (fun X hC hem => ?_)
  unfold fm_X13_slot at h
  refine hr_iconst (v := 4) hC dX13_slot_0 rfl ?_
  refine hr_iload_n hC dX13_slot_1 rfl ?_
  refine hr_imul hC dX13_slot_2 ?_
  obtain rfl := Option.some.inj h
  exact hr_iret hC dX13_slot_3
/-- HomeCompiler$Generator.keep(I)I -/
def fm_X13_keep  (x1 : Int32) (σ : hc_St) : Option (Int32 × hc_St) := Option.bind (fm_X13_met x1 σ) fun r1 => if 12 ≤ x1 then (Option.bind (fm_X13_slot x1 r1) fun r7 => Option.bind (fm_X12_storeAt 5 2 r7 7 r1) fun r11 => some ((64 + x1), r11)) else (Option.bind (fm_X13_temp x1 r1) fun r15 => some (r15, r1))
set_option maxRecDepth 20000 in
set_option maxHeartbeats 4000000 in
theorem okX13_keep (l : Launch) (E : hc_E) (A : Nat → Prop) (d : Nat)  (hD : 11 ≤ d) {x1 : Int32} {σ : hc_St} {r : (Int32 × hc_St)} (h : fm_X13_keep  x1 σ = some r) (am : Nat → Nat → Nat) : hc_M l hc_V0 yX13_keep (ws_ yX13_keep cX13_keep 2 (some .int)) d E A [.ref (E.2.1 14), .int x1] am [13] σ (.inl (some (.int r.1))) r.2 := by
  have hd1 : 1 ≤ d := by omega
  have hd8 : 9 ≤ d := by omega
  refine hc_enter2 (own := RX13) [(0, .ref (E.2.1 14)), (1, .int x1)] pl_X13 rfl hc_V0_st hc_G0_nd rfl (Nat.le_of_ble_eq_true rfl) (fun X hC hem => ?_)
  unfold fm_X13_keep at h
  refine hr_aload_n hC dX13_keep_0 rfl ?_
  refine hr_iload_n hC dX13_keep_1 rfl ?_
  obtain ⟨r1, e2, h⟩ := hx_bind h
  refine hs_callV0 hC 14 [_] _ dX13_keep_2 q2146 q2148 qs117 q327 q2149 np_X13 rfl OB_14 pd_X13_met (Nat.le_of_ble_eq_true rfl) hd1 (okX13_met l E A (d - 1)  (by omega)  e2 am) rfl ?_
  refine hr_iload_n hC dX13_keep_5 rfl ?_
  refine hr_bipush (v := 12) hC dX13_keep_6 rfl ?_
  refine hr_icmp_ge (x := _) hC 16 dX13_keep_8 (by decide) (fun c6 => ?_) (fun c6 => ?_)
  · rw [if_pos c6] at h
    refine hr_aload_n hC dX13_keep_16 rfl ?_
    refine hr_gO 13 hC F14_5 rfl dX13_keep_17 q800 ?_
    refine hr_iconst (v := 5) hC dX13_keep_20 rfl ?_
    refine hr_iconst (v := 2) hC dX13_keep_21 rfl ?_
    refine hr_iload_n hC dX13_keep_22 rfl ?_
    obtain ⟨r7, e8, h⟩ := hx_bind h
    refine hs_callS0 hC [_] _ dX13_keep_23 q2151 q2152 q327 q2153 np_X13 rfl pd_X13_slot (Nat.le_of_ble_eq_true rfl) hd1 (okX13_slot l E A (d - 1)  (by omega)  e8 am) rfl ?_
    refine hr_bipush (v := 7) hC dX13_keep_26 rfl ?_
    obtain ⟨r11, e12, h⟩ := hx_bind h
    refine hs_callV hC 13 [_, _, _, _] _ dX13_keep_28 q2020 q2021 q2022 q326 q2023 np_X12 rfl OB_13 pd_X12_storeAt (Nat.le_of_ble_eq_true rfl) hd1 (okX12_storeAt l E A (d - 1)  (by omega)  e12 am) (hc_rb rfl) rfl (fun am13 ha14 => ?_)
    refine hr_bipush (v := 64) hC dX13_keep_31 rfl ?_
    refine hr_iload_n hC dX13_keep_33 rfl ?_
    refine hr_iadd hC dX13_keep_34 ?_
    obtain rfl := Option.some.inj h
    exact hr_iret hC dX13_keep_35
  · rw [if_neg c6] at h
    refine hr_iload_n hC dX13_keep_11 rfl ?_
    obtain ⟨r15, e16, h⟩ := hx_bind h
    refine hs_callS0 hC [_] _ dX13_keep_12 q2139 q2140 q327 q2141 np_X13 rfl pd_X13_temp (Nat.le_of_ble_eq_true rfl) hd1 (okX13_temp l E A (d - 1)  (by omega)  e16 am) rfl ?_
    obtain rfl := Option.some.inj h
    exact hr_iret hC dX13_keep_15
/-- HomeCompiler$Generator.read(II)V -/
def fm_X13_read  (x1 : Int32) (x2 : Int32) (σ : hc_St) : Option hc_St := Option.bind (fm_X11_owner x1 σ) fun r1 => Option.bind (α := hc_St) (if r1 = (-1) then (hk (inb x1 (gL σ 14 9)) <| Option.bind (fm_X12_set x2 ((gC σ 14 9 x1)) σ) fun r34 => Option.bind (fm_X12_load 2 x2 x2 0 r34) fun r38 => some (r38)) else (Option.bind (fm_X15_of x1 σ) fun r11 => if r11 = (-1) then (Option.bind (fm_X15_place_2 x1 σ) fun r17 => Option.bind (fm_X12_loadAt x2 8 ((-r17)) x2 σ) fun r21 => some (r21)) else (Option.bind (fm_X15_of x1 σ) fun r25 => Option.bind (fm_X12_move x2 r25 σ) fun r29 => some (r29)))) fun r7 => some r7
set_option maxRecDepth 20000 in
set_option maxHeartbeats 4000000 in
theorem okX13_read (l : Launch) (E : hc_E) (A : Nat → Prop) (d : Nat)  (hD : 11 ≤ d) {x1 : Int32} {x2 : Int32} {σ : hc_St} {r : hc_St} (h : fm_X13_read  x1 x2 σ = some r) (am : Nat → Nat → Nat) : hc_M l hc_V0 yX13_read (ws_ yX13_read cX13_read 3 none) d E A [.ref (E.2.1 14), .int x1, .int x2] am [13] σ (.inl none) r := by
  have hd1 : 1 ≤ d := by omega
  have hd8 : 9 ≤ d := by omega
  refine hc_enter2 (own := RX13) [(0, .ref (E.2.1 14)), (1, .int x1), (2, .int x2)] pl_X13 rfl hc_V0_st hc_G0_nd rfl (Nat.le_of_ble_eq_true rfl) (fun X hC hem => ?_)
  unfold fm_X13_read at h
  refine hr_aload_n hC dX13_read_0 rfl ?_
  refine hr_gO 11 hC F14_2 rfl dX13_read_1 q797 ?_
  refine hr_iload_n hC dX13_read_4 rfl ?_
  obtain ⟨r1, e2, h⟩ := hx_bind h
  refine hs_callV0 hC 11 [_] _ dX13_read_5 q1867 q1868 q1869 q325 q1870 np_X11 rfl OB_11 pd_X11_owner (Nat.le_of_ble_eq_true rfl) hd1 (okX11_owner l E A (d - 1)  (by omega)  e2 am) rfl ?_
  refine hr_iconst (v := (-1)) hC dX13_read_8 rfl ?_
  obtain ⟨r7, e8, h⟩ := hx_bind h
  have J9 : ∀ am42, hc_At hc_V0 E 3 X 91 [] [] r7 am42 [] := by
    intro am42
    obtain rfl := Option.some.inj h
    exact hr_vret hC dX13_read_91
  clear h
  have h := e8
  refine hr_icmp_ne (x := _) hC 40 dX13_read_9 (by decide) (fun c6 => ?_) (fun c6 => ?_)
  · rw [if_neg c6] at h
    refine hr_aload_n hC dX13_read_40 rfl ?_
    refine hr_gO 16 hC F14_7 rfl dX13_read_41 q802 ?_
    refine hr_iload_n hC dX13_read_44 rfl ?_
    obtain ⟨r11, e12, h⟩ := hx_bind h
    refine hs_callV0 hC 16 [_] _ dX13_read_45 q2044 q2045 q2046 q329 q2047 np_X15 rfl OB_16 pd_X15_of (Nat.le_of_ble_eq_true rfl) hd1 (okX15_of l E A (d - 1)  (by omega)  e12 am) rfl ?_
    refine hr_iconst (v := (-1)) hC dX13_read_48 rfl ?_
    refine hr_icmp_eq (x := _) hC 71 dX13_read_49 (by decide) (fun c16 => ?_) (fun c16 => ?_)
    · rw [if_pos c16] at h
      refine hr_aload_n hC dX13_read_71 rfl ?_
      refine hr_gO 13 hC F14_5 rfl dX13_read_72 q800 ?_
      refine hr_iload_n hC dX13_read_75 rfl ?_
      refine hr_bipush (v := 8) hC dX13_read_76 rfl ?_
      refine hr_aload_n hC dX13_read_78 rfl ?_
      refine hr_gO 16 hC F14_7 rfl dX13_read_79 q802 ?_
      refine hr_iload_n hC dX13_read_82 rfl ?_
      obtain ⟨r17, e18, h⟩ := hx_bind h
      refine hs_callV0 hC 16 [_] _ dX13_read_83 q2052 q2053 q2054 q329 q2055 np_X15 rfl OB_16 pd_X15_place_2 (Nat.le_of_ble_eq_true rfl) hd1 (okX15_place_2 l E A (d - 1)  (by omega)  e18 am) rfl ?_
      refine hr_ineg hC dX13_read_86 ?_
      refine hr_iload_n hC dX13_read_87 rfl ?_
      obtain ⟨r21, e22, h⟩ := hx_bind h
      refine hs_callV hC 13 [_, _, _, _] _ dX13_read_88 q2056 q2057 q2058 q326 q2059 np_X12 rfl OB_13 pd_X12_loadAt (Nat.le_of_ble_eq_true rfl) hd1 (okX12_loadAt l E A (d - 1)  (by omega)  e22 am) (hc_rb rfl) rfl (fun am23 ha24 => ?_)
      obtain rfl := Option.some.inj h
      exact hr_sub _ rfl (J9 am23)
    · rw [if_neg c16] at h
      refine hr_aload_n hC dX13_read_52 rfl ?_
      refine hr_gO 13 hC F14_5 rfl dX13_read_53 q800 ?_
      refine hr_iload_n hC dX13_read_56 rfl ?_
      refine hr_aload_n hC dX13_read_57 rfl ?_
      refine hr_gO 16 hC F14_7 rfl dX13_read_58 q802 ?_
      refine hr_iload_n hC dX13_read_61 rfl ?_
      obtain ⟨r25, e26, h⟩ := hx_bind h
      refine hs_callV0 hC 16 [_] _ dX13_read_62 q2044 q2045 q2046 q329 q2047 np_X15 rfl OB_16 pd_X15_of (Nat.le_of_ble_eq_true rfl) hd1 (okX15_of l E A (d - 1)  (by omega)  e26 am) rfl ?_
      obtain ⟨r29, e30, h⟩ := hx_bind h
      refine hs_callV hC 13 [_, _] _ dX13_read_65 q2007 q2008 q2009 q326 q2010 np_X12 rfl OB_13 pd_X12_move (Nat.le_of_ble_eq_true rfl) hd1 (okX12_move l E A (d - 1)  (by omega)  e30 am) (hc_rb rfl) rfl (fun am31 ha32 => ?_)
      refine hr_goto hC 91 dX13_read_68 (by decide) ?_
      obtain rfl := Option.some.inj h
      exact hr_sub _ rfl (J9 am31)
  · rw [if_pos c6] at h
    refine hr_aload_n hC dX13_read_12 rfl ?_
    refine hr_gO 13 hC F14_5 rfl dX13_read_13 q800 ?_
    refine hr_iload_n hC dX13_read_16 rfl ?_
    refine hr_aload_n hC dX13_read_17 rfl ?_
    refine hr_gA hC F14_9 rfl dX13_read_18 q804 ?_
    refine hr_iload_n hC dX13_read_21 rfl ?_
    obtain ⟨c33, h⟩ := hk_ok h
    refine hs_iald hC A14_9 c33 dX13_read_22 ?_
    obtain ⟨r34, e35, h⟩ := hx_bind h
    refine hs_callV hC 13 [_, _] _ dX13_read_23 q1908 q1909 q1910 q326 q1911 np_X12 rfl OB_13 pd_X12_set (Nat.le_of_ble_eq_true rfl) hd1 (okX12_set l E A (d - 1)  (by omega)  e35 am) (hc_rb rfl) rfl (fun am36 ha37 => ?_)
    refine hr_aload_n hC dX13_read_26 rfl ?_
    refine hr_gO 13 hC F14_5 rfl dX13_read_27 q800 ?_
    refine hr_iconst (v := 2) hC dX13_read_30 rfl ?_
    refine hr_iload_n hC dX13_read_31 rfl ?_
    refine hr_iload_n hC dX13_read_32 rfl ?_
    refine hr_iconst (v := 0) hC dX13_read_33 rfl ?_
    obtain ⟨r38, e39, h⟩ := hx_bind h
    refine hs_callV hC 13 [_, _, _, _] _ dX13_read_34 q2162 q2061 q2062 q326 q2063 np_X12 rfl OB_13 pd_X12_load (Nat.le_of_ble_eq_true rfl) hd1 (okX12_load l E A (d - 1)  (by omega)  e39 am36) (hc_rb rfl) rfl (fun am40 ha41 => ?_)
    refine hr_goto hC 91 dX13_read_37 (by decide) ?_
    obtain rfl := Option.some.inj h
    exact hr_sub _ rfl (J9 am40)
/-- HomeCompiler$Generator.name(II)I -/
def fm_X13_name  (x1 : Int32) (x2 : Int32) (σ : hc_St) : Option (Int32 × hc_St) := Option.bind (fm_X11_owner x1 σ) fun r1 => if r1 = (-1) then (Option.bind (fm_X13_dest x2 σ) fun r7 => Option.bind (fm_X13_read x1 r7 σ) fun r11 => Option.bind (fm_X13_keep x2 r11) fun r15 => some (r15.1, r15.2)) else (Option.bind (fm_X15_of x1 σ) fun r19 => if r19 = (-1) then (Option.bind (fm_X13_dest x2 σ) fun r25 => Option.bind (fm_X13_read x1 r25 σ) fun r29 => Option.bind (fm_X13_keep x2 r29) fun r33 => some (r33.1, r33.2)) else (Option.bind (fm_X15_of x1 σ) fun r37 => some (r37, σ)))
set_option maxRecDepth 20000 in
set_option maxHeartbeats 4000000 in
theorem okX13_name (l : Launch) (E : hc_E) (A : Nat → Prop) (d : Nat)  (hD : 12 ≤ d) {x1 : Int32} {x2 : Int32} {σ : hc_St} {r : (Int32 × hc_St)} (h : fm_X13_name  x1 x2 σ = some r) (am : Nat → Nat → Nat) : hc_M l hc_V0 yX13_name (ws_ yX13_name cX13_name 3 (some .int)) d E A [.ref (E.2.1 14), .int x1, .int x2] am [13] σ (.inl (some (.int r.1))) r.2 := by
  have hd1 : 1 ≤ d := by omega
  have hd8 : 9 ≤ d := by omega
  refine hc_enter2 (own := RX13) [(0, .ref (E.2.1 14)), (1, .int x1), (2, .int x2)] pl_X13 rfl hc_V0_st hc_G0_nd rfl (Nat.le_of_ble_eq_true rfl) (fun X hC hem => ?_)
  unfold fm_X13_name at h
  refine hr_aload_n hC dX13_name_0 rfl ?_
  refine hr_gO 11 hC F14_2 rfl dX13_name_1 q797 ?_
  refine hr_iload_n hC dX13_name_4 rfl ?_
  obtain ⟨r1, e2, h⟩ := hx_bind h
  refine hs_callV0 hC 11 [_] _ dX13_name_5 q1867 q1868 q1869 q325 q1870 np_X11 rfl OB_11 pd_X11_owner (Nat.le_of_ble_eq_true rfl) hd1 (okX11_owner l E A (d - 1)  (by omega)  e2 am) rfl ?_
  refine hr_iconst (v := (-1)) hC dX13_name_8 rfl ?_
  refine hr_icmp_eq (x := _) hC 33 dX13_name_9 (by decide) (fun c6 => ?_) (fun c6 => ?_)
  · rw [if_pos c6] at h
    refine hr_aload_n hC dX13_name_33 rfl ?_
    refine hr_iload_n hC dX13_name_34 rfl ?_
    refine hr_aload_n hC dX13_name_35 rfl ?_
    refine hr_iload_n hC dX13_name_36 rfl ?_
    obtain ⟨r7, e8, h⟩ := hx_bind h
    refine hs_callV0 hC 14 [_] _ dX13_name_37 q2135 q2137 qs115 q327 q2138 np_X13 rfl OB_14 pd_X13_dest (Nat.le_of_ble_eq_true rfl) hd1 (okX13_dest l E A (d - 1)  (by omega)  e8 am) rfl ?_
    obtain ⟨r11, e12, h⟩ := hx_bind h
    refine hs_callV hC 14 [_, _] _ dX13_name_40 q2158 q2160 qs119 q327 q2161 np_X13 rfl OB_14 pd_X13_read (Nat.le_of_ble_eq_true rfl) hd1 (okX13_read l E A (d - 1)  (by omega)  e12 am) (hc_rb rfl) rfl (fun am13 ha14 => ?_)
    refine hr_aload_n hC dX13_name_43 rfl ?_
    refine hr_iload_n hC dX13_name_44 rfl ?_
    obtain ⟨r15, e16, h⟩ := hx_bind h
    refine hs_callV hC 14 [_] _ dX13_name_45 q2142 q2144 qs116 q327 q2145 np_X13 rfl OB_14 pd_X13_keep (Nat.le_of_ble_eq_true rfl) hd1 (okX13_keep l E A (d - 1)  (by omega)  e16 am13) (hc_rb rfl) rfl (fun am17 ha18 => ?_)
    obtain rfl := Option.some.inj h
    exact hr_iret hC dX13_name_48
  · rw [if_neg c6] at h
    refine hr_aload_n hC dX13_name_12 rfl ?_
    refine hr_gO 16 hC F14_7 rfl dX13_name_13 q802 ?_
    refine hr_iload_n hC dX13_name_16 rfl ?_
    obtain ⟨r19, e20, h⟩ := hx_bind h
    refine hs_callV0 hC 16 [_] _ dX13_name_17 q2044 q2045 q2046 q329 q2047 np_X15 rfl OB_16 pd_X15_of (Nat.le_of_ble_eq_true rfl) hd1 (okX15_of l E A (d - 1)  (by omega)  e20 am) rfl ?_
    refine hr_iconst (v := (-1)) hC dX13_name_20 rfl ?_
    refine hr_icmp_eq (x := _) hC 33 dX13_name_21 (by decide) (fun c24 => ?_) (fun c24 => ?_)
    · rw [if_pos c24] at h
      refine hr_aload_n hC dX13_name_33 rfl ?_
      refine hr_iload_n hC dX13_name_34 rfl ?_
      refine hr_aload_n hC dX13_name_35 rfl ?_
      refine hr_iload_n hC dX13_name_36 rfl ?_
      obtain ⟨r25, e26, h⟩ := hx_bind h
      refine hs_callV0 hC 14 [_] _ dX13_name_37 q2135 q2137 qs115 q327 q2138 np_X13 rfl OB_14 pd_X13_dest (Nat.le_of_ble_eq_true rfl) hd1 (okX13_dest l E A (d - 1)  (by omega)  e26 am) rfl ?_
      obtain ⟨r29, e30, h⟩ := hx_bind h
      refine hs_callV hC 14 [_, _] _ dX13_name_40 q2158 q2160 qs119 q327 q2161 np_X13 rfl OB_14 pd_X13_read (Nat.le_of_ble_eq_true rfl) hd1 (okX13_read l E A (d - 1)  (by omega)  e30 am) (hc_rb rfl) rfl (fun am31 ha32 => ?_)
      refine hr_aload_n hC dX13_name_43 rfl ?_
      refine hr_iload_n hC dX13_name_44 rfl ?_
      obtain ⟨r33, e34, h⟩ := hx_bind h
      refine hs_callV hC 14 [_] _ dX13_name_45 q2142 q2144 qs116 q327 q2145 np_X13 rfl OB_14 pd_X13_keep (Nat.le_of_ble_eq_true rfl) hd1 (okX13_keep l E A (d - 1)  (by omega)  e34 am31) (hc_rb rfl) rfl (fun am35 ha36 => ?_)
      obtain rfl := Option.some.inj h
      exact hr_iret hC dX13_name_48
    · rw [if_neg c24] at h
      refine hr_aload_n hC dX13_name_24 rfl ?_
      refine hr_gO 16 hC F14_7 rfl dX13_name_25 q802 ?_
      refine hr_iload_n hC dX13_name_28 rfl ?_
      obtain ⟨r37, e38, h⟩ := hx_bind h
      refine hs_callV0 hC 16 [_] _ dX13_name_29 q2044 q2045 q2046 q329 q2047 np_X15 rfl OB_16 pd_X15_of (Nat.le_of_ble_eq_true rfl) hd1 (okX15_of l E A (d - 1)  (by omega)  e38 am) rfl ?_
      obtain rfl := Option.some.inj h
      exact hr_iret hC dX13_name_32
/-- HomeCompiler$Generator.use(II)I -/
def fm_X13_use  (x1 : Int32) (x2 : Int32) (σ : hc_St) : Option (Int32 × hc_St) := if 64 ≤ x1 then (Option.bind (fm_X13_slot ((x1 - 64)) σ) fun r3 => Option.bind (fm_X12_loadAt x2 2 r3 x2 σ) fun r7 => some (x2, r7)) else (some (x1, σ))
set_option maxRecDepth 20000 in
set_option maxHeartbeats 4000000 in
theorem okX13_use (l : Launch) (E : hc_E) (A : Nat → Prop) (d : Nat)  (hD : 11 ≤ d) {x1 : Int32} {x2 : Int32} {σ : hc_St} {r : (Int32 × hc_St)} (h : fm_X13_use  x1 x2 σ = some r) (am : Nat → Nat → Nat) : hc_M l hc_V0 yX13_use (ws_ yX13_use cX13_use 3 (some .int)) d E A [.ref (E.2.1 14), .int x1, .int x2] am [13] σ (.inl (some (.int r.1))) r.2 := by
  have hd1 : 1 ≤ d := by omega
  have hd8 : 9 ≤ d := by omega
  refine hc_enter2 (own := RX13) [(0, .ref (E.2.1 14)), (1, .int x1), (2, .int x2)] pl_X13 rfl hc_V0_st hc_G0_nd rfl (Nat.le_of_ble_eq_true rfl) (fun X hC hem => ?_)
  unfold fm_X13_use at h
  refine hr_iload_n hC dX13_use_0 rfl ?_
  refine hr_bipush (v := 64) hC dX13_use_1 rfl ?_
  refine hr_icmp_ge (x := _) hC 8 dX13_use_3 (by decide) (fun c2 => ?_) (fun c2 => ?_)
  · rw [if_pos c2] at h
    refine hr_aload_n hC dX13_use_8 rfl ?_
    refine hr_gO 13 hC F14_5 rfl dX13_use_9 q800 ?_
    refine hr_iload_n hC dX13_use_12 rfl ?_
    refine hr_iconst (v := 2) hC dX13_use_13 rfl ?_
    refine hr_iload_n hC dX13_use_14 rfl ?_
    refine hr_bipush (v := 64) hC dX13_use_15 rfl ?_
    refine hr_isub hC dX13_use_17 ?_
    obtain ⟨r3, e4, h⟩ := hx_bind h
    refine hs_callS0 hC [_] _ dX13_use_18 q2151 q2152 q327 q2153 np_X13 rfl pd_X13_slot (Nat.le_of_ble_eq_true rfl) hd1 (okX13_slot l E A (d - 1)  (by omega)  e4 am) rfl ?_
    refine hr_iload_n hC dX13_use_21 rfl ?_
    obtain ⟨r7, e8, h⟩ := hx_bind h
    refine hs_callV hC 13 [_, _, _, _] _ dX13_use_22 q2056 q2057 q2058 q326 q2059 np_X12 rfl OB_13 pd_X12_loadAt (Nat.le_of_ble_eq_true rfl) hd1 (okX12_loadAt l E A (d - 1)  (by omega)  e8 am) (hc_rb rfl) rfl (fun am9 ha10 => ?_)
    refine hr_iload_n hC dX13_use_25 rfl ?_
    obtain rfl := Option.some.inj h
    exact hr_iret hC dX13_use_26
  · rw [if_neg c2] at h
    refine hr_iload_n hC dX13_use_6 rfl ?_
    obtain rfl := Option.some.inj h
    exact hr_iret hC dX13_use_7
/-- HomeCompiler$Generator.length(II)V -/
def fm_X13_length  (x1 : Int32) (x2 : Int32) (σ : hc_St) : Option hc_St := Option.bind (fm_X11_size x1 σ) fun r1 => Option.bind (α := hc_St) (if r1 = (-1) then (Option.bind (fm_X15_lengthOf x1 σ) fun r11 => if r11 = (-1) then (Option.bind (fm_X15_place_2 x1 σ) fun r17 => Option.bind (fm_X12_loadAt x2 8 ((-r17)) x2 σ) fun r21 => some (r21)) else (Option.bind (fm_X15_lengthOf x1 σ) fun r25 => Option.bind (fm_X12_move x2 r25 σ) fun r29 => some (r29))) else (Option.bind (fm_X11_size x1 σ) fun r33 => Option.bind (fm_X12_set x2 r33 σ) fun r37 => some (r37))) fun r7 => some r7
set_option maxRecDepth 20000 in
set_option maxHeartbeats 4000000 in
theorem okX13_length (l : Launch) (E : hc_E) (A : Nat → Prop) (d : Nat)  (hD : 11 ≤ d) {x1 : Int32} {x2 : Int32} {σ : hc_St} {r : hc_St} (h : fm_X13_length  x1 x2 σ = some r) (am : Nat → Nat → Nat) : hc_M l hc_V0 yX13_length (ws_ yX13_length cX13_length 3 none) d E A [.ref (E.2.1 14), .int x1, .int x2] am [13] σ (.inl none) r := by
  have hd1 : 1 ≤ d := by omega
  have hd8 : 9 ≤ d := by omega
  refine hc_enter2 (own := RX13) [(0, .ref (E.2.1 14)), (1, .int x1), (2, .int x2)] pl_X13 rfl hc_V0_st hc_G0_nd rfl (Nat.le_of_ble_eq_true rfl) (fun X hC hem => ?_)
  unfold fm_X13_length at h
  refine hr_aload_n hC dX13_length_0 rfl ?_
  refine hr_gO 11 hC F14_2 rfl dX13_length_1 q797 ?_
  refine hr_iload_n hC dX13_length_4 rfl ?_
  obtain ⟨r1, e2, h⟩ := hx_bind h
  refine hs_callV0 hC 11 [_] _ dX13_length_5 q2051 q1655 q1656 q325 q1657 np_X11 rfl OB_11 pd_X11_size (Nat.le_of_ble_eq_true rfl) hd1 (okX11_size l E A (d - 1)  (by omega)  e2 am) rfl ?_
  refine hr_iconst (v := (-1)) hC dX13_length_8 rfl ?_
  obtain ⟨r7, e8, h⟩ := hx_bind h
  have J9 : ∀ am41, hc_At hc_V0 E 3 X 82 [] [] r7 am41 [] := by
    intro am41
    obtain rfl := Option.some.inj h
    exact hr_vret hC dX13_length_82
  clear h
  have h := e8
  refine hr_icmp_eq (x := _) hC 31 dX13_length_9 (by decide) (fun c6 => ?_) (fun c6 => ?_)
  · rw [if_pos c6] at h
    refine hr_aload_n hC dX13_length_31 rfl ?_
    refine hr_gO 16 hC F14_7 rfl dX13_length_32 q802 ?_
    refine hr_iload_n hC dX13_length_35 rfl ?_
    obtain ⟨r11, e12, h⟩ := hx_bind h
    refine hs_callV0 hC 16 [_] _ dX13_length_36 q2064 q2065 q2066 q329 q2067 np_X15 rfl OB_16 pd_X15_lengthOf (Nat.le_of_ble_eq_true rfl) hd1 (okX15_lengthOf l E A (d - 1)  (by omega)  e12 am) rfl ?_
    refine hr_iconst (v := (-1)) hC dX13_length_39 rfl ?_
    refine hr_icmp_eq (x := _) hC 62 dX13_length_40 (by decide) (fun c16 => ?_) (fun c16 => ?_)
    · rw [if_pos c16] at h
      refine hr_aload_n hC dX13_length_62 rfl ?_
      refine hr_gO 13 hC F14_5 rfl dX13_length_63 q800 ?_
      refine hr_iload_n hC dX13_length_66 rfl ?_
      refine hr_bipush (v := 8) hC dX13_length_67 rfl ?_
      refine hr_aload_n hC dX13_length_69 rfl ?_
      refine hr_gO 16 hC F14_7 rfl dX13_length_70 q802 ?_
      refine hr_iload_n hC dX13_length_73 rfl ?_
      obtain ⟨r17, e18, h⟩ := hx_bind h
      refine hs_callV0 hC 16 [_] _ dX13_length_74 q2052 q2053 q2054 q329 q2055 np_X15 rfl OB_16 pd_X15_place_2 (Nat.le_of_ble_eq_true rfl) hd1 (okX15_place_2 l E A (d - 1)  (by omega)  e18 am) rfl ?_
      refine hr_ineg hC dX13_length_77 ?_
      refine hr_iload_n hC dX13_length_78 rfl ?_
      obtain ⟨r21, e22, h⟩ := hx_bind h
      refine hs_callV hC 13 [_, _, _, _] _ dX13_length_79 q2056 q2057 q2058 q326 q2059 np_X12 rfl OB_13 pd_X12_loadAt (Nat.le_of_ble_eq_true rfl) hd1 (okX12_loadAt l E A (d - 1)  (by omega)  e22 am) (hc_rb rfl) rfl (fun am23 ha24 => ?_)
      obtain rfl := Option.some.inj h
      exact hr_sub _ rfl (J9 am23)
    · rw [if_neg c16] at h
      refine hr_aload_n hC dX13_length_43 rfl ?_
      refine hr_gO 13 hC F14_5 rfl dX13_length_44 q800 ?_
      refine hr_iload_n hC dX13_length_47 rfl ?_
      refine hr_aload_n hC dX13_length_48 rfl ?_
      refine hr_gO 16 hC F14_7 rfl dX13_length_49 q802 ?_
      refine hr_iload_n hC dX13_length_52 rfl ?_
      obtain ⟨r25, e26, h⟩ := hx_bind h
      refine hs_callV0 hC 16 [_] _ dX13_length_53 q2064 q2065 q2066 q329 q2067 np_X15 rfl OB_16 pd_X15_lengthOf (Nat.le_of_ble_eq_true rfl) hd1 (okX15_lengthOf l E A (d - 1)  (by omega)  e26 am) rfl ?_
      obtain ⟨r29, e30, h⟩ := hx_bind h
      refine hs_callV hC 13 [_, _] _ dX13_length_56 q2007 q2008 q2009 q326 q2010 np_X12 rfl OB_13 pd_X12_move (Nat.le_of_ble_eq_true rfl) hd1 (okX12_move l E A (d - 1)  (by omega)  e30 am) (hc_rb rfl) rfl (fun am31 ha32 => ?_)
      refine hr_goto hC 82 dX13_length_59 (by decide) ?_
      obtain rfl := Option.some.inj h
      exact hr_sub _ rfl (J9 am31)
  · rw [if_neg c6] at h
    refine hr_aload_n hC dX13_length_12 rfl ?_
    refine hr_gO 13 hC F14_5 rfl dX13_length_13 q800 ?_
    refine hr_iload_n hC dX13_length_16 rfl ?_
    refine hr_aload_n hC dX13_length_17 rfl ?_
    refine hr_gO 11 hC F14_2 rfl dX13_length_18 q797 ?_
    refine hr_iload_n hC dX13_length_21 rfl ?_
    obtain ⟨r33, e34, h⟩ := hx_bind h
    refine hs_callV0 hC 11 [_] _ dX13_length_22 q2051 q1655 q1656 q325 q1657 np_X11 rfl OB_11 pd_X11_size (Nat.le_of_ble_eq_true rfl) hd1 (okX11_size l E A (d - 1)  (by omega)  e34 am) rfl ?_
    obtain ⟨r37, e38, h⟩ := hx_bind h
    refine hs_callV hC 13 [_, _] _ dX13_length_25 q1908 q1909 q1910 q326 q1911 np_X12 rfl OB_13 pd_X12_set (Nat.le_of_ble_eq_true rfl) hd1 (okX12_set l E A (d - 1)  (by omega)  e38 am) (hc_rb rfl) rfl (fun am39 ha40 => ?_)
    refine hr_goto hC 82 dX13_length_28 (by decide) ?_
    obtain rfl := Option.some.inj h
    exact hr_sub _ rfl (J9 am39)
/-- HomeCompiler$Generator.address(III)V -/
def fm_X13_address  (x1 : Int32) (x2 : Int32) (x3 : Int32) (σ : hc_St) : Option hc_St := Option.bind (fm_X11_owner x1 σ) fun r1 => Option.bind (α := hc_St) (if r1 = (-1) then (hk (inb x1 (gL σ 14 9)) <| Option.bind (fm_X12_set x2 ((((gC σ 14 9 x1)) + x3)) σ) fun r54 => some (r54)) else (Option.bind (fm_X11_size x1 σ) fun r11 => if r11 = (-1) then (Option.bind (fm_X15_of x1 σ) fun r17 => if r17 = (-1) then (Option.bind (fm_X15_place_2 x1 σ) fun r23 => Option.bind (fm_X12_loadAt x2 8 ((((-r23)) + 4)) x2 σ) fun r27 => if x3 = 0 then (some (r27)) else (Option.bind (fm_X12_add x2 x2 x3 1 r27) fun r33 => some (r33))) else (Option.bind (fm_X15_of x1 σ) fun r37 => Option.bind (fm_X12_add x2 r37 x3 x2 σ) fun r41 => some (r41))) else (Option.bind (fm_X15_place_2 x1 σ) fun r45 => Option.bind (fm_X12_add x2 8 ((((-r45)) + x3)) x2 σ) fun r49 => some (r49)))) fun r7 => some r7
set_option maxRecDepth 20000 in
set_option maxHeartbeats 4000000 in
theorem okX13_address (l : Launch) (E : hc_E) (A : Nat → Prop) (d : Nat)  (hD : 11 ≤ d) {x1 : Int32} {x2 : Int32} {x3 : Int32} {σ : hc_St} {r : hc_St} (h : fm_X13_address  x1 x2 x3 σ = some r) (am : Nat → Nat → Nat) : hc_M l hc_V0 yX13_address (ws_ yX13_address cX13_address 4 none) d E A [.ref (E.2.1 14), .int x1, .int x2, .int x3] am [13] σ (.inl none) r := by
  have hd1 : 1 ≤ d := by omega
  have hd8 : 9 ≤ d := by omega
  refine hc_enter2 (own := RX13) [(0, .ref (E.2.1 14)), (1, .int x1), (2, .int x2), (3, .int x3)] pl_X13 rfl hc_V0_st hc_G0_nd rfl (Nat.le_of_ble_eq_true rfl) (fun X hC hem => ?_)
  unfold fm_X13_address at h
  refine hr_aload_n hC dX13_address_0 rfl ?_
  refine hr_gO 11 hC F14_2 rfl dX13_address_1 q797 ?_
  refine hr_iload_n hC dX13_address_4 rfl ?_
  obtain ⟨r1, e2, h⟩ := hx_bind h
  refine hs_callV0 hC 11 [_] _ dX13_address_5 q1867 q1868 q1869 q325 q1870 np_X11 rfl OB_11 pd_X11_owner (Nat.le_of_ble_eq_true rfl) hd1 (okX11_owner l E A (d - 1)  (by omega)  e2 am) rfl ?_
  refine hr_iconst (v := (-1)) hC dX13_address_8 rfl ?_
  obtain ⟨r7, e8, h⟩ := hx_bind h
  have J9 : ∀ am58, hc_At hc_V0 E 4 X 138 [] [] r7 am58 [] := by
    intro am58
    obtain rfl := Option.some.inj h
    exact hr_vret hC dX13_address_138
  clear h
  have h := e8
  refine hr_icmp_ne (x := _) hC 31 dX13_address_9 (by decide) (fun c6 => ?_) (fun c6 => ?_)
  · rw [if_neg c6] at h
    refine hr_aload_n hC dX13_address_31 rfl ?_
    refine hr_gO 11 hC F14_2 rfl dX13_address_32 q797 ?_
    refine hr_iload_n hC dX13_address_35 rfl ?_
    obtain ⟨r11, e12, h⟩ := hx_bind h
    refine hs_callV0 hC 11 [_] _ dX13_address_36 q2051 q1655 q1656 q325 q1657 np_X11 rfl OB_11 pd_X11_size (Nat.le_of_ble_eq_true rfl) hd1 (okX11_size l E A (d - 1)  (by omega)  e12 am) rfl ?_
    refine hr_iconst (v := (-1)) hC dX13_address_39 rfl ?_
    refine hr_icmp_eq (x := _) hC 68 dX13_address_40 (by decide) (fun c16 => ?_) (fun c16 => ?_)
    · rw [if_pos c16] at h
      refine hr_aload_n hC dX13_address_68 rfl ?_
      refine hr_gO 16 hC F14_7 rfl dX13_address_69 q802 ?_
      refine hr_iload_n hC dX13_address_72 rfl ?_
      obtain ⟨r17, e18, h⟩ := hx_bind h
      refine hs_callV0 hC 16 [_] _ dX13_address_73 q2044 q2045 q2046 q329 q2047 np_X15 rfl OB_16 pd_X15_of (Nat.le_of_ble_eq_true rfl) hd1 (okX15_of l E A (d - 1)  (by omega)  e18 am) rfl ?_
      refine hr_iconst (v := (-1)) hC dX13_address_76 rfl ?_
      refine hr_icmp_eq (x := _) hC 101 dX13_address_77 (by decide) (fun c22 => ?_) (fun c22 => ?_)
      · rw [if_pos c22] at h
        refine hr_aload_n hC dX13_address_101 rfl ?_
        refine hr_gO 13 hC F14_5 rfl dX13_address_102 q800 ?_
        refine hr_iload_n hC dX13_address_105 rfl ?_
        refine hr_bipush (v := 8) hC dX13_address_106 rfl ?_
        refine hr_aload_n hC dX13_address_108 rfl ?_
        refine hr_gO 16 hC F14_7 rfl dX13_address_109 q802 ?_
        refine hr_iload_n hC dX13_address_112 rfl ?_
        obtain ⟨r23, e24, h⟩ := hx_bind h
        refine hs_callV0 hC 16 [_] _ dX13_address_113 q2052 q2053 q2054 q329 q2055 np_X15 rfl OB_16 pd_X15_place_2 (Nat.le_of_ble_eq_true rfl) hd1 (okX15_place_2 l E A (d - 1)  (by omega)  e24 am) rfl ?_
        refine hr_ineg hC dX13_address_116 ?_
        refine hr_iconst (v := 4) hC dX13_address_117 rfl ?_
        refine hr_iadd hC dX13_address_118 ?_
        refine hr_iload_n hC dX13_address_119 rfl ?_
        obtain ⟨r27, e28, h⟩ := hx_bind h
        refine hs_callV hC 13 [_, _, _, _] _ dX13_address_120 q2056 q2057 q2058 q326 q2059 np_X12 rfl OB_13 pd_X12_loadAt (Nat.le_of_ble_eq_true rfl) hd1 (okX12_loadAt l E A (d - 1)  (by omega)  e28 am) (hc_rb rfl) rfl (fun am29 ha30 => ?_)
        refine hr_iload_n hC dX13_address_123 rfl ?_
        refine hr_if_eq (x := _) hC 138 dX13_address_124 (by decide) (fun c32 => ?_) (fun c32 => ?_)
        · rw [if_pos c32] at h
          obtain rfl := Option.some.inj h
          exact hr_sub _ rfl (J9 am29)
        · rw [if_neg c32] at h
          refine hr_aload_n hC dX13_address_127 rfl ?_
          refine hr_gO 13 hC F14_5 rfl dX13_address_128 q800 ?_
          refine hr_iload_n hC dX13_address_131 rfl ?_
          refine hr_iload_n hC dX13_address_132 rfl ?_
          refine hr_iload_n hC dX13_address_133 rfl ?_
          refine hr_iconst (v := 1) hC dX13_address_134 rfl ?_
          obtain ⟨r33, e34, h⟩ := hx_bind h
          refine hs_callV hC 13 [_, _, _, _] _ dX13_address_135 q1994 q1995 q1996 q326 q1997 np_X12 rfl OB_13 pd_X12_add (Nat.le_of_ble_eq_true rfl) hd1 (okX12_add l E A (d - 1)  (by omega)  e34 am29) (hc_rb rfl) rfl (fun am35 ha36 => ?_)
          obtain rfl := Option.some.inj h
          exact hr_sub _ rfl (J9 am35)
      · rw [if_neg c22] at h
        refine hr_aload_n hC dX13_address_80 rfl ?_
        refine hr_gO 13 hC F14_5 rfl dX13_address_81 q800 ?_
        refine hr_iload_n hC dX13_address_84 rfl ?_
        refine hr_aload_n hC dX13_address_85 rfl ?_
        refine hr_gO 16 hC F14_7 rfl dX13_address_86 q802 ?_
        refine hr_iload_n hC dX13_address_89 rfl ?_
        obtain ⟨r37, e38, h⟩ := hx_bind h
        refine hs_callV0 hC 16 [_] _ dX13_address_90 q2044 q2045 q2046 q329 q2047 np_X15 rfl OB_16 pd_X15_of (Nat.le_of_ble_eq_true rfl) hd1 (okX15_of l E A (d - 1)  (by omega)  e38 am) rfl ?_
        refine hr_iload_n hC dX13_address_93 rfl ?_
        refine hr_iload_n hC dX13_address_94 rfl ?_
        obtain ⟨r41, e42, h⟩ := hx_bind h
        refine hs_callV hC 13 [_, _, _, _] _ dX13_address_95 q1994 q1995 q1996 q326 q1997 np_X12 rfl OB_13 pd_X12_add (Nat.le_of_ble_eq_true rfl) hd1 (okX12_add l E A (d - 1)  (by omega)  e42 am) (hc_rb rfl) rfl (fun am43 ha44 => ?_)
        refine hr_goto hC 138 dX13_address_98 (by decide) ?_
        obtain rfl := Option.some.inj h
        exact hr_sub _ rfl (J9 am43)
    · rw [if_neg c16] at h
      refine hr_aload_n hC dX13_address_43 rfl ?_
      refine hr_gO 13 hC F14_5 rfl dX13_address_44 q800 ?_
      refine hr_iload_n hC dX13_address_47 rfl ?_
      refine hr_bipush (v := 8) hC dX13_address_48 rfl ?_
      refine hr_aload_n hC dX13_address_50 rfl ?_
      refine hr_gO 16 hC F14_7 rfl dX13_address_51 q802 ?_
      refine hr_iload_n hC dX13_address_54 rfl ?_
      obtain ⟨r45, e46, h⟩ := hx_bind h
      refine hs_callV0 hC 16 [_] _ dX13_address_55 q2052 q2053 q2054 q329 q2055 np_X15 rfl OB_16 pd_X15_place_2 (Nat.le_of_ble_eq_true rfl) hd1 (okX15_place_2 l E A (d - 1)  (by omega)  e46 am) rfl ?_
      refine hr_ineg hC dX13_address_58 ?_
      refine hr_iload_n hC dX13_address_59 rfl ?_
      refine hr_iadd hC dX13_address_60 ?_
      refine hr_iload_n hC dX13_address_61 rfl ?_
      obtain ⟨r49, e50, h⟩ := hx_bind h
      refine hs_callV hC 13 [_, _, _, _] _ dX13_address_62 q1994 q1995 q1996 q326 q1997 np_X12 rfl OB_13 pd_X12_add (Nat.le_of_ble_eq_true rfl) hd1 (okX12_add l E A (d - 1)  (by omega)  e50 am) (hc_rb rfl) rfl (fun am51 ha52 => ?_)
      refine hr_goto hC 138 dX13_address_65 (by decide) ?_
      obtain rfl := Option.some.inj h
      exact hr_sub _ rfl (J9 am51)
  · rw [if_pos c6] at h
    refine hr_aload_n hC dX13_address_12 rfl ?_
    refine hr_gO 13 hC F14_5 rfl dX13_address_13 q800 ?_
    refine hr_iload_n hC dX13_address_16 rfl ?_
    refine hr_aload_n hC dX13_address_17 rfl ?_
    refine hr_gA hC F14_9 rfl dX13_address_18 q804 ?_
    refine hr_iload_n hC dX13_address_21 rfl ?_
    obtain ⟨c53, h⟩ := hk_ok h
    refine hs_iald hC A14_9 c53 dX13_address_22 ?_
    refine hr_iload_n hC dX13_address_23 rfl ?_
    refine hr_iadd hC dX13_address_24 ?_
    obtain ⟨r54, e55, h⟩ := hx_bind h
    refine hs_callV hC 13 [_, _] _ dX13_address_25 q1908 q1909 q1910 q326 q1911 np_X12 rfl OB_13 pd_X12_set (Nat.le_of_ble_eq_true rfl) hd1 (okX12_set l E A (d - 1)  (by omega)  e55 am) (hc_rb rfl) rfl (fun am56 ha57 => ?_)
    refine hr_goto hC 138 dX13_address_28 (by decide) ?_
    obtain rfl := Option.some.inj h
    exact hr_sub _ rfl (J9 am56)
/-- HomeCompiler$Generator.reach(II)V -/
def fm_X13_reach  (x1 : Int32) (x2 : Int32) (σ : hc_St) : Option hc_St := Option.bind (fm_X13_use x2 5 σ) fun r1 => Option.bind (fm_X13_length x1 6 r1.2) fun r5 => Option.bind (fm_X12_label  r5) fun r9 => Option.bind (fm_X12_emit ((((((((6291456 ||| ((jshl r1.1 15)))) ||| 24576)) ||| 1024)) ||| 99)) r9.2) fun r13 => Option.bind (fm_X13_end 16 r13) fun r17 => Option.bind (fm_X12_jump 0 r17 r13) fun r21 => Option.bind (fm_X12_here r9.1 r21) fun r25 => Option.bind (fm_X11_type x1 r25) fun r29 => Option.bind (α := hc_St) (if r29 = 1 then (Option.bind (fm_X12_move 7 r1.1 r25) fun r43 => some (r43)) else (Option.bind (fm_X12_number 1 7 r1.1 2 r25) fun r39 => some (r39))) fun r35 => Option.bind (fm_X13_address x1 6 0 r35) fun r48 => Option.bind (fm_X12_both 0 0 7 7 6 r48) fun r52 => some r52
set_option maxRecDepth 20000 in
set_option maxHeartbeats 4000000 in
theorem okX13_reach (l : Launch) (E : hc_E) (A : Nat → Prop) (d : Nat)  (hD : 12 ≤ d) {x1 : Int32} {x2 : Int32} {σ : hc_St} {r : hc_St} (h : fm_X13_reach  x1 x2 σ = some r) (am : Nat → Nat → Nat) : hc_M l hc_V0 yX13_reach (ws_ yX13_reach cX13_reach 5 none) d E A [.ref (E.2.1 14), .int x1, .int x2] am [13] σ (.inl none) r := by
  have hd1 : 1 ≤ d := by omega
  have hd8 : 9 ≤ d := by omega
  refine hc_enter2 (own := RX13) [(0, .ref (E.2.1 14)), (1, .int x1), (2, .int x2)] pl_X13 rfl hc_V0_st hc_G0_nd rfl (Nat.le_of_ble_eq_true rfl) (fun X hC hem => ?_)
  unfold fm_X13_reach at h
  refine hr_aload_n hC dX13_reach_0 rfl ?_
  refine hr_iload_n hC dX13_reach_1 rfl ?_
  refine hr_iconst (v := 5) hC dX13_reach_2 rfl ?_
  obtain ⟨r1, e2, h⟩ := hx_bind h
  refine hs_callV hC 14 [_, _] _ dX13_reach_3 q2167 q2169 qs121 q327 q2170 np_X13 rfl OB_14 pd_X13_use (Nat.le_of_ble_eq_true rfl) hd1 (okX13_use l E A (d - 1)  (by omega)  e2 am) (hc_rb rfl) rfl (fun am3 ha4 => ?_)
  refine hr_istore_n hC dX13_reach_6 (by decide) ?_
  refine hr_aload_n hC dX13_reach_7 rfl ?_
  refine hr_iload_n hC dX13_reach_8 rfl ?_
  refine hr_bipush (v := 6) hC dX13_reach_9 rfl ?_
  obtain ⟨r5, e6, h⟩ := hx_bind h
  refine hs_callV hC 14 [_, _] _ dX13_reach_11 q2171 q2173 qs122 q327 q2174 np_X13 rfl OB_14 pd_X13_length (Nat.le_of_ble_eq_true rfl) hd1 (okX13_length l E A (d - 1)  (by omega)  e6 am3) (hc_rb rfl) rfl (fun am7 ha8 => ?_)
  refine hr_aload_n hC dX13_reach_14 rfl ?_
  refine hr_gO 13 hC F14_5 rfl dX13_reach_15 q800 ?_
  obtain ⟨r9, e10, h⟩ := hx_bind h
  refine hs_callV hC 13 [] _ dX13_reach_18 q1888 q1889 q1890 q326 q1891 np_X12 rfl OB_13 pd_X12_label (Nat.le_of_ble_eq_true rfl) hd1 (okX12_label l E A (d - 1)  (by omega)  e10 am7) (hc_rb rfl) rfl (fun am11 ha12 => ?_)
  refine hr_istore hC dX13_reach_21 (by decide) ?_
  refine hr_aload_n hC dX13_reach_23 rfl ?_
  refine hr_gO 13 hC F14_5 rfl dX13_reach_24 q800 ?_
  refine hr_ldcw hC dX13_reach_27 q2175 ?_
  refine hr_iload_n hC dX13_reach_30 rfl ?_
  refine hr_bipush (v := 15) hC dX13_reach_31 rfl ?_
  refine hr_ishl hC dX13_reach_33 ?_
  refine hr_ior hC dX13_reach_34 ?_
  refine hr_sipush (v := 24576) hC dX13_reach_35 rfl ?_
  refine hr_ior hC dX13_reach_38 ?_
  refine hr_sipush (v := 1024) hC dX13_reach_39 rfl ?_
  refine hr_ior hC dX13_reach_42 ?_
  refine hr_bipush (v := 99) hC dX13_reach_43 rfl ?_
  refine hr_ior hC dX13_reach_45 ?_
  obtain ⟨r13, e14, h⟩ := hx_bind h
  refine hs_callV hC 13 [_] _ dX13_reach_46 q2176 q1901 q1902 q326 q1903 np_X12 rfl OB_13 pd_X12_emit (Nat.le_of_ble_eq_true rfl) hd1 (okX12_emit l E A (d - 1)  (by omega)  e14 am11) (hc_rb rfl) rfl (fun am15 ha16 => ?_)
  refine hr_aload_n hC dX13_reach_49 rfl ?_
  refine hr_gO 13 hC F14_5 rfl dX13_reach_50 q800 ?_
  refine hr_iconst (v := 0) hC dX13_reach_53 rfl ?_
  refine hr_aload_n hC dX13_reach_54 rfl ?_
  refine hr_bipush (v := 16) hC dX13_reach_55 rfl ?_
  obtain ⟨r17, e18, h⟩ := hx_bind h
  refine hs_callV0 hC 14 [_] _ dX13_reach_57 q1983 q1985 qs104 q327 q1986 np_X13 rfl OB_14 pd_X13_end (Nat.le_of_ble_eq_true rfl) hd1 (okX13_end l E A (d - 1)  (by omega)  e18 am15) rfl ?_
  obtain ⟨r21, e22, h⟩ := hx_bind h
  refine hs_callV hC 13 [_, _] _ dX13_reach_60 q1904 q1905 q1906 q326 q1907 np_X12 rfl OB_13 pd_X12_jump (Nat.le_of_ble_eq_true rfl) hd1 (okX12_jump l E A (d - 1)  (by omega)  e22 am15) (hc_rb rfl) rfl (fun am23 ha24 => ?_)
  refine hr_aload_n hC dX13_reach_63 rfl ?_
  refine hr_gO 13 hC F14_5 rfl dX13_reach_64 q800 ?_
  refine hr_iload hC dX13_reach_67 rfl ?_
  obtain ⟨r25, e26, h⟩ := hx_bind h
  refine hs_callV0 hC 13 [_] _ dX13_reach_69 q1927 q1928 q1929 q326 q1930 np_X12 rfl OB_13 pd_X12_here (Nat.le_of_ble_eq_true rfl) hd1 (okX12_here l E A (d - 1)  (by omega)  e26 am23) rfl ?_
  refine hr_aload_n hC dX13_reach_72 rfl ?_
  refine hr_gO 11 hC F14_2 rfl dX13_reach_73 q797 ?_
  refine hr_iload_n hC dX13_reach_76 rfl ?_
  obtain ⟨r29, e30, h⟩ := hx_bind h
  refine hs_callV0 hC 11 [_] _ dX13_reach_77 q2085 q1659 q1660 q325 q1661 np_X11 rfl OB_11 pd_X11_type (Nat.le_of_ble_eq_true rfl) hd1 (okX11_type l E A (d - 1)  (by omega)  e30 am23) rfl ?_
  refine hr_iconst (v := 1) hC dX13_reach_80 rfl ?_
  obtain ⟨r35, e36, h⟩ := hx_bind h
  have J37 : ∀ am47, hc_At hc_V0 E 5 X 109 [(0, .ref (E.2.1 14)), (1, .int x1)] [] r35 am47 [] := by
    intro am47
    refine hr_aload_n hC dX13_reach_109 rfl ?_
    refine hr_iload_n hC dX13_reach_110 rfl ?_
    refine hr_bipush (v := 6) hC dX13_reach_111 rfl ?_
    refine hr_iconst (v := 0) hC dX13_reach_113 rfl ?_
    obtain ⟨r48, e49, h⟩ := hx_bind h
    refine hs_callV hC 14 [_, _, _] _ dX13_reach_114 q2177 q2179 qs123 q327 q2180 np_X13 rfl OB_14 pd_X13_address (Nat.le_of_ble_eq_true rfl) hd1 (okX13_address l E A (d - 1)  (by omega)  e49 am47) (hc_rb rfl) rfl (fun am50 ha51 => ?_)
    refine hr_aload_n hC dX13_reach_117 rfl ?_
    refine hr_gO 13 hC F14_5 rfl dX13_reach_118 q800 ?_
    refine hr_iconst (v := 0) hC dX13_reach_121 rfl ?_
    refine hr_iconst (v := 0) hC dX13_reach_122 rfl ?_
    refine hr_bipush (v := 7) hC dX13_reach_123 rfl ?_
    refine hr_bipush (v := 7) hC dX13_reach_125 rfl ?_
    refine hr_bipush (v := 6) hC dX13_reach_127 rfl ?_
    obtain ⟨r52, e53, h⟩ := hx_bind h
    refine hs_callV hC 13 [_, _, _, _, _] _ dX13_reach_129 q2015 q2000 q2001 q326 q2002 np_X12 rfl OB_13 pd_X12_both (Nat.le_of_ble_eq_true rfl) hd1 (okX12_both l E A (d - 1)  (by omega)  e53 am50) (hc_rb rfl) rfl (fun am54 ha55 => ?_)
    obtain rfl := Option.some.inj h
    exact hr_vret hC dX13_reach_132
  clear h
  have h := e36
  refine hr_icmp_ne (x := _) hC 97 dX13_reach_81 (by decide) (fun c34 => ?_) (fun c34 => ?_)
  · rw [if_neg c34] at h
    refine hr_aload_n hC dX13_reach_97 rfl ?_
    refine hr_gO 13 hC F14_5 rfl dX13_reach_98 q800 ?_
    refine hr_iconst (v := 1) hC dX13_reach_101 rfl ?_
    refine hr_bipush (v := 7) hC dX13_reach_102 rfl ?_
    refine hr_iload_n hC dX13_reach_104 rfl ?_
    refine hr_iconst (v := 2) hC dX13_reach_105 rfl ?_
    obtain ⟨r39, e40, h⟩ := hx_bind h
    refine hs_callV hC 13 [_, _, _, _] _ dX13_reach_106 q1992 q1913 q1914 q326 q1915 np_X12 rfl OB_13 pd_X12_number (Nat.le_of_ble_eq_true rfl) hd1 (okX12_number l E A (d - 1)  (by omega)  e40 am23) (hc_rb rfl) rfl (fun am41 ha42 => ?_)
    obtain rfl := Option.some.inj h
    exact hr_sub _ rfl (J37 am41)
  · rw [if_pos c34] at h
    refine hr_aload_n hC dX13_reach_84 rfl ?_
    refine hr_gO 13 hC F14_5 rfl dX13_reach_85 q800 ?_
    refine hr_bipush (v := 7) hC dX13_reach_88 rfl ?_
    refine hr_iload_n hC dX13_reach_90 rfl ?_
    obtain ⟨r43, e44, h⟩ := hx_bind h
    refine hs_callV hC 13 [_, _] _ dX13_reach_91 q2007 q2008 q2009 q326 q2010 np_X12 rfl OB_13 pd_X12_move (Nat.le_of_ble_eq_true rfl) hd1 (okX12_move l E A (d - 1)  (by omega)  e44 am23) (hc_rb rfl) rfl (fun am45 ha46 => ?_)
    refine hr_goto hC 109 dX13_reach_94 (by decide) ?_
    obtain rfl := Option.some.inj h
    exact hr_sub _ rfl (J37 am45)
/-- HomeCompiler$Generator.loadElement(II)V -/
def fm_X13_loadElement  (x1 : Int32) (x2 : Int32) (σ : hc_St) : Option hc_St := Option.bind (fm_X11_type x1 σ) fun r1 => hl (α := Int32) ((if r1 = 1 then 4 else 2)) fun v7 => Option.bind (fm_X12_load v7 x2 7 0 σ) fun r8 => some r8
set_option maxRecDepth 20000 in
set_option maxHeartbeats 4000000 in
theorem okX13_loadElement (l : Launch) (E : hc_E) (A : Nat → Prop) (d : Nat)  (hD : 7 ≤ d) {x1 : Int32} {x2 : Int32} {σ : hc_St} {r : hc_St} (h : fm_X13_loadElement  x1 x2 σ = some r) (am : Nat → Nat → Nat) : hc_M l hc_V0 yX13_loadElement (ws_ yX13_loadElement cX13_loadElement 3 none) d E A [.ref (E.2.1 14), .int x1, .int x2] am [13] σ (.inl none) r := by
  have hd1 : 1 ≤ d := by omega
  refine hc_enter2 (own := RX13) [(0, .ref (E.2.1 14)), (1, .int x1), (2, .int x2)] pl_X13 rfl hc_V0_st hc_G0_nd rfl (Nat.le_of_ble_eq_true rfl) (fun X hC hem => ?_)
  unfold fm_X13_loadElement at h
  refine hr_aload_n hC dX13_loadElement_0 rfl ?_
  refine hr_gO 13 hC F14_5 rfl dX13_loadElement_1 q800 ?_
  refine hr_aload_n hC dX13_loadElement_4 rfl ?_
  refine hr_gO 11 hC F14_2 rfl dX13_loadElement_5 q797 ?_
  refine hr_iload_n hC dX13_loadElement_8 rfl ?_
  obtain ⟨r1, e2, h⟩ := hx_bind h
  refine hs_callV0 hC 11 [_] _ dX13_loadElement_9 q2085 q1659 q1660 q325 q1661 np_X11 rfl OB_11 pd_X11_type (Nat.le_of_ble_eq_true rfl) hd1 (okX11_type l E A (d - 1)  (by omega)  e2 am) rfl ?_
  refine hr_iconst (v := 1) hC dX13_loadElement_12 rfl ?_
  obtain ⟨v7, hv7, h⟩ := hl_ok h
  have J12 : ∀ w13 : Int32, (if r1 = 1 then 4 else 2) = w13 → hc_At hc_V0 E 3 X 21 [(2, .int x2)] [.int w13, .ref (E.2.1 13)] σ am [] := by
    intro w13 hw13
    obtain rfl := hv7.trans hw13
    refine hr_iload_n hC dX13_loadElement_21 rfl ?_
    refine hr_bipush (v := 7) hC dX13_loadElement_22 rfl ?_
    refine hr_iconst (v := 0) hC dX13_loadElement_24 rfl ?_
    obtain ⟨r8, e9, h⟩ := hx_bind h
    refine hs_callV hC 13 [_, _, _, _] _ dX13_loadElement_25 q2162 q2061 q2062 q326 q2063 np_X12 rfl OB_13 pd_X12_load (Nat.le_of_ble_eq_true rfl) hd1 (okX12_load l E A (d - 1)  (by omega)  e9 am) (hc_rb rfl) rfl (fun am10 ha11 => ?_)
    obtain rfl := Option.some.inj h
    exact hr_vret hC dX13_loadElement_28
  refine hr_icmp_ne (x := _) hC 20 dX13_loadElement_13 (by decide) (fun c14 => ?_) (fun c14 => ?_)
  · refine hr_iconst (v := 2) hC dX13_loadElement_20 rfl ?_
    exact hr_sub _ rfl (J12 _ (by first | (rw [if_neg c14]; done) | (simp only [if_neg c14]; done) | rfl))
  · refine hr_iconst (v := 4) hC dX13_loadElement_16 rfl ?_
    refine hr_goto hC 21 dX13_loadElement_17 (by decide) ?_
    exact hr_sub _ rfl (J12 _ (by first | (rw [if_pos c14]; done) | (simp only [if_pos c14]; done) | rfl))
/-- HomeCompiler$Generator.isHome(II)Z -/
def fm_X13_isHome  (x0 : Int32) (x1 : Int32) (σ : hc_St) : Option Int32 := Option.bind (α := Int32) (if 64 ≤ x0 then (some (0)) else (if x0 = 0 then (some (0)) else (if 12 ≤ x1 then (some (1)) else (Option.bind (fm_X13_temp x1 σ) fun r11 => if x0 = r11 then (some (0)) else (some (1)))))) fun r3 => hk (hb01 r3) <| some r3
set_option maxRecDepth 20000 in
set_option maxHeartbeats 4000000 in
theorem okX13_isHome (l : Launch) (E : hc_E) (A : Nat → Prop) (d : Nat)  (hD : 2 ≤ d) {x0 : Int32} {x1 : Int32} {σ : hc_St} {r : Int32} (h : fm_X13_isHome  x0 x1 σ = some r) (am : Nat → Nat → Nat) : hc_M l hc_V0 yX13_isHome (ws_ yX13_isHome cX13_isHome 2 (some .boolean)) d E A [.int x0, .int x1] am [] σ (.inl (some (.int r))) σ := by
  have hd1 : 1 ≤ d := by omega
  refine hc_enter2 (own := RX13) [(0, .int x0), (1, .int x1)] pl_X13 rfl hc_V0_st hc_G0_nd rfl (Nat.le_of_ble_eq_true rfl) (fun X hC hem => ?_)
  unfold fm_X13_isHome at h
  refine hr_iload_n hC dX13_isHome_0 rfl ?_
  refine hr_bipush (v := 64) hC dX13_isHome_1 rfl ?_
  obtain ⟨r3, e4, h⟩ := hx_bind h
  have J5 : hc_At hc_V0 E 2 X 29 [] [.int r3] σ am [] := by
    obtain ⟨c17, h⟩ := hk_ok h
    obtain rfl := Option.some.inj h
    exact hr_zret hC (hb01_n c17) dX13_isHome_29
  clear h
  have h := e4
  refine hr_icmp_ge (x := _) hC 28 dX13_isHome_3 (by decide) (fun c2 => ?_) (fun c2 => ?_)
  · rw [if_pos c2] at h
    refine hr_iconst (v := 0) hC dX13_isHome_28 rfl ?_
    obtain rfl := Option.some.inj h
    exact hr_sub _ rfl (J5)
  · rw [if_neg c2] at h
    refine hr_iload_n hC dX13_isHome_6 rfl ?_
    refine hr_if_eq (x := _) hC 28 dX13_isHome_7 (by decide) (fun c8 => ?_) (fun c8 => ?_)
    · rw [if_pos c8] at h
      refine hr_iconst (v := 0) hC dX13_isHome_28 rfl ?_
      obtain rfl := Option.some.inj h
      exact hr_sub _ rfl (J5)
    · rw [if_neg c8] at h
      refine hr_iload_n hC dX13_isHome_10 rfl ?_
      refine hr_bipush (v := 12) hC dX13_isHome_11 rfl ?_
      refine hr_icmp_ge (x := _) hC 24 dX13_isHome_13 (by decide) (fun c10 => ?_) (fun c10 => ?_)
      · rw [if_pos c10] at h
        refine hr_iconst (v := 1) hC dX13_isHome_24 rfl ?_
        refine hr_goto hC 29 dX13_isHome_25 (by decide) ?_
        obtain rfl := Option.some.inj h
        exact hr_sub _ rfl (J5)
      · rw [if_neg c10] at h
        refine hr_iload_n hC dX13_isHome_16 rfl ?_
        refine hr_iload_n hC dX13_isHome_17 rfl ?_
        obtain ⟨r11, e12, h⟩ := hx_bind h
        refine hs_callS0 hC [_] _ dX13_isHome_18 q2139 q2140 q327 q2141 np_X13 rfl pd_X13_temp (Nat.le_of_ble_eq_true rfl) hd1 (okX13_temp l E A (d - 1)  (by omega)  e12 am) rfl ?_
        refine hr_icmp_eq (x := _) hC 28 dX13_isHome_21 (by decide) (fun c16 => ?_) (fun c16 => ?_)
        · rw [if_pos c16] at h
          refine hr_iconst (v := 0) hC dX13_isHome_28 rfl ?_
          obtain rfl := Option.some.inj h
          exact hr_sub _ rfl (J5)
        · rw [if_neg c16] at h
          refine hr_iconst (v := 1) hC dX13_isHome_24 rfl ?_
          refine hr_goto hC 29 dX13_isHome_25 (by decide) ?_
          obtain rfl := Option.some.inj h
          exact hr_sub _ rfl (J5)
def okg_X14_changes (l : Launch) (E : hc_E) (A : Nat → Prop) (d : Nat) (am : Nat → Nat → Nat) (w : Nat) (a : List Int32) (σ : hc_St) (r : (Int32 × hc_St)) : Prop := match w with
  | 0 => hc_M l hc_V0 yX14_changes (ws_ yX14_changes cX14_changes 5 (some .boolean)) d E A [.ref (E.2.1 15), .int (a.getD 0 0)] am [] σ (.inl (some (.int r.1))) r.2
  | _ => True
def lp_X14_changes_43 (n : Nat) (k0 : Nat) (rec : Nat → List Int32 → hc_St → Option (Int32 × hc_St)) : Nat → Int32 → Int32 → hc_St → Option (hc_St × Int32)
  | 0, _, _, _ => none
  | m + 1, y3, y4, σ => if y4 = (-1) then (some (σ, y3)) else (if y3 = 0 then (Option.bind (rec 0 [y4] σ) fun r16 => Option.bind (fm_X6_next y4 r16.2) fun r20 => lp_X14_changes_43 n k0 rec m r16.1 r20 r16.2) else (some (σ, y3)))
/-- HomeCompiler$Folder.changes(I)Z -/
def bd_X14_changes (n : Nat) (k0 : Nat) (rec : Nat → List Int32 → hc_St → Option (Int32 × hc_St)) (x1 : Int32) (σ : hc_St) : Option (Int32 × hc_St) := Option.bind (fm_X6_kind x1 σ) fun r1 => hl (α := Int32) ((if r1 = 30 then 1 else (if r1 = 35 then 1 else (if r1 = 36 then 1 else 0)))) fun v7 => Option.bind (fm_X6_first x1 σ) fun r8 => Option.bind (lp_X14_changes_43 n k0 rec n v7 r8 σ) fun r24 => hk (hb01 r24.2) <| some (r24.2, r24.1)
set_option maxRecDepth 20000 in
set_option maxHeartbeats 4000000 in
theorem ll_X14_changes_43 {l : Launch} {E : hc_E} {A : Nat → Prop} {am : Nat → Nat → Nat} {d : Nat} {kk : Nat} {X : hc_X} (n : Nat) (k0 : Nat) (rec : Nat → List Int32 → hc_St → Option (Int32 × hc_St)) (hD : kk + 2 ≤ d) (hem : X.2.2.2.2.2.2.2.2.2.1.exceptionTable.isEmpty = true) (IH : ∀ (w : Nat) (a : List Int32) (σ : hc_St) (r : (Int32 × hc_St)), rec w a σ = some r → ∀ am, okg_X14_changes l E A (d - 1) am w a σ r) {oc : hc_Oc} {σe : hc_St} (hC : hc_C hc_V0 E cX14_changes 5 RX14 (some .boolean) d oc σe (l, A, am, []) X) : ∀ (m : Nat) (σ : hc_St) (y3 : Int32) (y4 : Int32) (rl : hc_St × Int32) (am1 : Nat → Nat → Nat), lp_X14_changes_43 n k0 rec m y3 y4 σ = some rl → (hc_At hc_V0 E 5 X 74 [(3, .int rl.2)] [] rl.1 am1 []) → hc_At hc_V0 E 5 X 43 [(0, .ref (E.2.1 15)), (3, .int y3), (4, .int y4)] [] σ am1 [] := by
  have hd1 : 1 ≤ d := by omega
  intro m
  induction m with
  | zero =>
    intro σ y3 y4 rl am1 h
    cases h
  | succ m ih =>
    intro σ y3 y4 rl am1 h JX
    rw [lp_X14_changes_43] at h
    refine hr_iload hC dX14_changes_43 rfl ?_
    refine hr_iconst (v := (-1)) hC dX14_changes_45 rfl ?_
    refine hr_icmp_eq (x := _) hC 74 dX14_changes_46 (by decide) (fun c13 => ?_) (fun c13 => ?_)
    · rw [if_pos c13] at h
      obtain rfl := Option.some.inj h
      exact hr_sub _ rfl (JX)
    · rw [if_neg c13] at h
      refine hr_iload_n hC dX14_changes_49 rfl ?_
      refine hr_if_ne (x := _) hC 74 dX14_changes_50 (by decide) (fun c15 => ?_) (fun c15 => ?_)
      · rw [if_neg c15] at h
        obtain rfl := Option.some.inj h
        exact hr_sub _ rfl (JX)
      · rw [if_pos c15] at h
        refine hr_aload_n hC dX14_changes_53 rfl ?_
        refine hr_iload hC dX14_changes_54 rfl ?_
        obtain ⟨r16, e17, h⟩ := hx_bind h
        refine hs_callV0 hC 15 [_] _ dX14_changes_56 q2202 q2199 q2200 q328 q2201 np_X14 rfl OB_15 pd_X14_changes (Nat.le_of_ble_eq_true rfl) hd1 (IH _ _ _ _ e17 am1) rfl ?_
        refine hr_istore_n hC dX14_changes_59 (by decide) ?_
        refine hr_aload_n hC dX14_changes_60 rfl ?_
        refine hr_gO 6 hC F15_0 rfl dX14_changes_61 q754 ?_
        refine hr_iload hC dX14_changes_64 rfl ?_
        obtain ⟨r20, e21, h⟩ := hx_bind h
        refine hs_callV0 hC 6 [_] _ dX14_changes_66 q2123 q1603 q1604 q320 q1605 np_X6 rfl OB_6 pd_X6_next (Nat.le_of_ble_eq_true rfl) hd1 (okX6_next l E A (d - 1)  (by omega)  e21 am1) rfl ?_
        refine hr_istore hC dX14_changes_69 (by decide) ?_
        refine hr_goto hC 43 dX14_changes_71 (by decide) ?_
        exact hr_sub _ rfl (ih _ _ _ _ am1 h JX)
set_option maxRecDepth 20000 in
set_option maxHeartbeats 4000000 in
theorem okbX14_changes (l : Launch) (E : hc_E) (A : Nat → Prop) (d : Nat) {kk : Nat} (n : Nat) (k0 : Nat) (rec : Nat → List Int32 → hc_St → Option (Int32 × hc_St)) (hD : kk + 2 ≤ d) (IH : ∀ (w : Nat) (a : List Int32) (σ : hc_St) (r : (Int32 × hc_St)), rec w a σ = some r → ∀ am, okg_X14_changes l E A (d - 1) am w a σ r) {x1 : Int32} {σ : hc_St} {r : (Int32 × hc_St)} (h : bd_X14_changes n k0 rec x1 σ = some r) (am : Nat → Nat → Nat) : hc_M l hc_V0 yX14_changes (ws_ yX14_changes cX14_changes 5 (some .boolean)) d E A [.ref (E.2.1 15), .int x1] am [] σ (.inl (some (.int r.1))) r.2 := by
  have hd1 : 1 ≤ d := by omega
  refine hc_enter2 (own := RX14) [(0, .ref (E.2.1 15)), (1, .int x1)] pl_X14 rfl hc_V0_st hc_G0_nd rfl (Nat.le_of_ble_eq_true rfl) (fun X hC hem => ?_)
  unfold bd_X14_changes at h
  refine hr_aload_n hC dX14_changes_0 rfl ?_
  refine hr_gO 6 hC F15_0 rfl dX14_changes_1 q754 ?_
  refine hr_iload_n hC dX14_changes_4 rfl ?_
  obtain ⟨r1, e2, h⟩ := hx_bind h
  refine hs_callV0 hC 6 [_] _ dX14_changes_5 q2110 q1369 q1370 q320 q1371 np_X6 rfl OB_6 pd_X6_kind (Nat.le_of_ble_eq_true rfl) hd1 (okX6_kind l E A (d - 1)  (by omega)  e2 am) rfl ?_
  refine hr_istore_n hC dX14_changes_8 (by decide) ?_
  refine hr_iload_n hC dX14_changes_9 rfl ?_
  refine hr_bipush (v := 30) hC dX14_changes_10 rfl ?_
  obtain ⟨v7, hv7, h⟩ := hl_ok h
  have J30 : ∀ w31 : Int32, (if r1 = 30 then 1 else (if r1 = 35 then 1 else (if r1 = 36 then 1 else 0))) = w31 → hc_At hc_V0 E 5 X 32 [(0, .ref (E.2.1 15)), (1, .int x1)] [.int w31] σ am [] := by
    intro w31 hw31
    obtain rfl := hv7.trans hw31
    refine hr_istore_n hC dX14_changes_32 (by decide) ?_
    refine hr_aload_n hC dX14_changes_33 rfl ?_
    refine hr_gO 6 hC F15_0 rfl dX14_changes_34 q754 ?_
    refine hr_iload_n hC dX14_changes_37 rfl ?_
    obtain ⟨r8, e9, h⟩ := hx_bind h
    refine hs_callV0 hC 6 [_] _ dX14_changes_38 q2109 q1576 q1577 q320 q1578 np_X6 rfl OB_6 pd_X6_first (Nat.le_of_ble_eq_true rfl) hd1 (okX6_first l E A (d - 1)  (by omega)  e9 am) rfl ?_
    refine hr_istore hC dX14_changes_41 (by decide) ?_
    obtain ⟨r24, e25, h⟩ := hx_bind h
    refine hr_sub _ rfl (ll_X14_changes_43 n k0 rec hD hem IH hC n _ _ _ _ am e25 ?_)
    refine hr_iload_n hC dX14_changes_74 rfl ?_
    obtain ⟨c29, h⟩ := hk_ok h
    obtain rfl := Option.some.inj h
    exact hr_zret hC (hb01_n c29) dX14_changes_75
  refine hr_icmp_eq (x := _) hC 27 dX14_changes_12 (by decide) (fun c32 => ?_) (fun c32 => ?_)
  · refine hr_iconst (v := 1) hC dX14_changes_27 rfl ?_
    refine hr_goto hC 32 dX14_changes_28 (by decide) ?_
    exact hr_sub _ rfl (J30 _ (by first | (rw [if_pos c32]; done) | (simp only [if_pos c32]; done) | rfl))
  · refine hr_iload_n hC dX14_changes_15 rfl ?_
    refine hr_bipush (v := 35) hC dX14_changes_16 rfl ?_
    refine hr_icmp_eq (x := _) hC 27 dX14_changes_18 (by decide) (fun c33 => ?_) (fun c33 => ?_)
    · refine hr_iconst (v := 1) hC dX14_changes_27 rfl ?_
      refine hr_goto hC 32 dX14_changes_28 (by decide) ?_
      exact hr_sub _ rfl (J30 _ (by first | (rw [if_neg c32, if_pos c33]; done) | (simp only [if_neg c32, if_pos c33]; done) | rfl))
    · refine hr_iload_n hC dX14_changes_21 rfl ?_
      refine hr_bipush (v := 36) hC dX14_changes_22 rfl ?_
      refine hr_icmp_ne (x := _) hC 31 dX14_changes_24 (by decide) (fun c34 => ?_) (fun c34 => ?_)
      · refine hr_iconst (v := 0) hC dX14_changes_31 rfl ?_
        exact hr_sub _ rfl (J30 _ (by first | (rw [if_neg c32, if_neg c33, if_neg c34]; done) | (simp only [if_neg c32, if_neg c33, if_neg c34]; done) | rfl))
      · refine hr_iconst (v := 1) hC dX14_changes_27 rfl ?_
        refine hr_goto hC 32 dX14_changes_28 (by decide) ?_
        exact hr_sub _ rfl (J30 _ (by first | (rw [if_neg c32, if_neg c33, if_pos c34]; done) | (simp only [if_neg c32, if_neg c33, if_pos c34]; done) | rfl))
def rc_X14_changes (n : Nat) (k0 : Nat) : Nat → Nat → List Int32 → hc_St → Option (Int32 × hc_St)
  | 0, _, _, _ => none
  | k + 1, w, a, σ => match w with
    | 0 => bd_X14_changes n k0 (rc_X14_changes n k0 k) (a.getD 0 0) σ
    | _ => none
theorem okr_X14_changes (l : Launch) (E : hc_E) (A : Nat → Prop) (n : Nat) (k0 : Nat) : ∀ (k d : Nat), k + 2 ≤ d → ∀ (w : Nat) (a : List Int32) (σ : hc_St) (r : (Int32 × hc_St)), rc_X14_changes n k0 k w a σ = some r → ∀ am, okg_X14_changes l E A d am w a σ r
  | 0, d, _, w, a, σ, r, h, am => by cases h
  | k + 1, d, hd, w, a, σ, r, h, am => by
    have IH := okr_X14_changes l E A n k0 k (d - 1) (by omega)
    match w, h with
    | 0, h => exact okbX14_changes l E A d (kk := k) n k0 (rc_X14_changes n k0 k) (by omega) IH h am
    | w + 1, h => trivial
def fm_X14_changes (n : Nat) (k0 : Nat) (x1 : Int32) (σ : hc_St) : Option (Int32 × hc_St) := rc_X14_changes n k0 k0 0 [x1] σ
theorem okX14_changes (l : Launch) (E : hc_E) (A : Nat → Prop) (d : Nat) (n : Nat) (k0 : Nat) (hD : k0 + 2 ≤ d)  {x1 : Int32} {σ : hc_St} {r : (Int32 × hc_St)} (h : fm_X14_changes n k0 x1 σ = some r) (am : Nat → Nat → Nat) : hc_M l hc_V0 yX14_changes (ws_ yX14_changes cX14_changes 5 (some .boolean)) d E A [.ref (E.2.1 15), .int x1] am [] σ (.inl (some (.int r.1))) r.2 := okr_X14_changes l E A n k0 k0 d hD 0 _ _ _ h am
/-- HomeCompiler$Generator.copy(II)I -/
def fm_X13_copy  (x1 : Int32) (x2 : Int32) (σ : hc_St) : Option (Int32 × hc_St) := if x1 = (64 + x2) then (some (x1, σ)) else (Option.bind (fm_X13_dest x2 σ) fun r3 => Option.bind (fm_X13_use x1 5 σ) fun r7 => Option.bind (fm_X12_move r3 r7.1 r7.2) fun r11 => Option.bind (fm_X13_keep x2 r11) fun r15 => some (r15.1, r15.2))
set_option maxRecDepth 20000 in
set_option maxHeartbeats 4000000 in
theorem okX13_copy (l : Launch) (E : hc_E) (A : Nat → Prop) (d : Nat)  (hD : 12 ≤ d) {x1 : Int32} {x2 : Int32} {σ : hc_St} {r : (Int32 × hc_St)} (h : fm_X13_copy  x1 x2 σ = some r) (am : Nat → Nat → Nat) : hc_M l hc_V0 yX13_copy (ws_ yX13_copy cX13_copy 3 (some .int)) d E A [.ref (E.2.1 14), .int x1, .int x2] am [13] σ (.inl (some (.int r.1))) r.2 := by
  have hd1 : 1 ≤ d := by omega
  have hd8 : 9 ≤ d := by omega
  refine hc_enter2 (own := RX13) [(0, .ref (E.2.1 14)), (1, .int x1), (2, .int x2)] pl_X13 rfl hc_V0_st hc_G0_nd rfl (Nat.le_of_ble_eq_true rfl) (fun X hC hem => ?_)
  unfold fm_X13_copy at h
  refine hr_iload_n hC dX13_copy_0 rfl ?_
  refine hr_bipush (v := 64) hC dX13_copy_1 rfl ?_
  refine hr_iload_n hC dX13_copy_3 rfl ?_
  refine hr_iadd hC dX13_copy_4 ?_
  refine hr_icmp_ne (x := _) hC 10 dX13_copy_5 (by decide) (fun c2 => ?_) (fun c2 => ?_)
  · rw [if_neg c2] at h
    refine hr_aload_n hC dX13_copy_10 rfl ?_
    refine hr_gO 13 hC F14_5 rfl dX13_copy_11 q800 ?_
    refine hr_aload_n hC dX13_copy_14 rfl ?_
    refine hr_iload_n hC dX13_copy_15 rfl ?_
    obtain ⟨r3, e4, h⟩ := hx_bind h
    refine hs_callV0 hC 14 [_] _ dX13_copy_16 q2135 q2137 qs115 q327 q2138 np_X13 rfl OB_14 pd_X13_dest (Nat.le_of_ble_eq_true rfl) hd1 (okX13_dest l E A (d - 1)  (by omega)  e4 am) rfl ?_
    refine hr_aload_n hC dX13_copy_19 rfl ?_
    refine hr_iload_n hC dX13_copy_20 rfl ?_
    refine hr_iconst (v := 5) hC dX13_copy_21 rfl ?_
    obtain ⟨r7, e8, h⟩ := hx_bind h
    refine hs_callV hC 14 [_, _] _ dX13_copy_22 q2167 q2169 qs121 q327 q2170 np_X13 rfl OB_14 pd_X13_use (Nat.le_of_ble_eq_true rfl) hd1 (okX13_use l E A (d - 1)  (by omega)  e8 am) (hc_rb rfl) rfl (fun am9 ha10 => ?_)
    obtain ⟨r11, e12, h⟩ := hx_bind h
    refine hs_callV hC 13 [_, _] _ dX13_copy_25 q2007 q2008 q2009 q326 q2010 np_X12 rfl OB_13 pd_X12_move (Nat.le_of_ble_eq_true rfl) hd1 (okX12_move l E A (d - 1)  (by omega)  e12 am9) (hc_rb rfl) rfl (fun am13 ha14 => ?_)
    refine hr_aload_n hC dX13_copy_28 rfl ?_
    refine hr_iload_n hC dX13_copy_29 rfl ?_
    obtain ⟨r15, e16, h⟩ := hx_bind h
    refine hs_callV hC 14 [_] _ dX13_copy_30 q2142 q2144 qs116 q327 q2145 np_X13 rfl OB_14 pd_X13_keep (Nat.le_of_ble_eq_true rfl) hd1 (okX13_keep l E A (d - 1)  (by omega)  e16 am13) (hc_rb rfl) rfl (fun am17 ha18 => ?_)
    obtain rfl := Option.some.inj h
    exact hr_iret hC dX13_copy_33
  · rw [if_pos c2] at h
    refine hr_iload_n hC dX13_copy_8 rfl ?_
    obtain rfl := Option.some.inj h
    exact hr_iret hC dX13_copy_9
/-- HomeCompiler$Emitter.control(IIII)V -/
def fm_X12_control  (x1 : Int32) (x2 : Int32) (x3 : Int32) (x4 : Int32) (σ : hc_St) : Option hc_St := Option.bind (fm_X12_emit ((((((((((jshl x4 20)) ||| ((jshl x3 15)))) ||| ((jshl x1 12)))) ||| ((jshl x2 7)))) ||| 115)) σ) fun r1 => some r1
set_option maxRecDepth 20000 in
set_option maxHeartbeats 4000000 in
theorem okX12_control (l : Launch) (E : hc_E) (A : Nat → Prop) (d : Nat)  (hD : 6 ≤ d) {x1 : Int32} {x2 : Int32} {x3 : Int32} {x4 : Int32} {σ : hc_St} {r : hc_St} (h : fm_X12_control  x1 x2 x3 x4 σ = some r) (am : Nat → Nat → Nat) : hc_M l hc_V0 yX12_control (ws_ yX12_control cX12_control 5 none) d E A [.ref (E.2.1 13), .int x1, .int x2, .int x3, .int x4] am [13] σ (.inl none) r := by
  have hd1 : 1 ≤ d := by omega
  refine hc_enter2 (own := RX12) [(0, .ref (E.2.1 13)), (1, .int x1), (2, .int x2), (3, .int x3), (4, .int x4)] pl_X12 rfl hc_V0_st hc_G0_nd rfl (Nat.le_of_ble_eq_true rfl) (fun X hC hem => ?_)
  unfold fm_X12_control at h
  refine hr_aload_n hC dX12_control_0 rfl ?_
  refine hr_iload hC dX12_control_1 rfl ?_
  refine hr_bipush (v := 20) hC dX12_control_3 rfl ?_
  refine hr_ishl hC dX12_control_5 ?_
  refine hr_iload_n hC dX12_control_6 rfl ?_
  refine hr_bipush (v := 15) hC dX12_control_7 rfl ?_
  refine hr_ishl hC dX12_control_9 ?_
  refine hr_ior hC dX12_control_10 ?_
  refine hr_iload_n hC dX12_control_11 rfl ?_
  refine hr_bipush (v := 12) hC dX12_control_12 rfl ?_
  refine hr_ishl hC dX12_control_14 ?_
  refine hr_ior hC dX12_control_15 ?_
  refine hr_iload_n hC dX12_control_16 rfl ?_
  refine hr_bipush (v := 7) hC dX12_control_17 rfl ?_
  refine hr_ishl hC dX12_control_19 ?_
  refine hr_ior hC dX12_control_20 ?_
  refine hr_bipush (v := 115) hC dX12_control_21 rfl ?_
  refine hr_ior hC dX12_control_23 ?_
  obtain ⟨r1, e2, h⟩ := hx_bind h
  refine hs_callV hC 13 [_] _ dX12_control_24 q1900 q1901 q1902 q326 q1903 np_X12 rfl OB_13 pd_X12_emit (Nat.le_of_ble_eq_true rfl) hd1 (okX12_emit l E A (d - 1)  (by omega)  e2 am) (hc_rb rfl) rfl (fun am3 ha4 => ?_)
  obtain rfl := Option.some.inj h
  exact hr_vret hC dX12_control_27
/-- HomeCompiler$Generator.isArray(I)Z -/
def fm_X13_isArray  (x1 : Int32) (σ : hc_St) : Option Int32 := Option.bind (fm_X6_kind x1 σ) fun r1 => Option.bind (α := Int32) (if r1 = 38 then (Option.bind (fm_X6_extra x1 σ) fun r11 => if r11 < 0 then (some (0)) else (Option.bind (fm_X6_extra x1 σ) fun r17 => Option.bind (fm_X11_size r17 σ) fun r21 => if r21 = 0 then (some (0)) else (some (1)))) else (some (0))) fun r7 => hk (hb01 r7) <| some r7
set_option maxRecDepth 20000 in
set_option maxHeartbeats 4000000 in
theorem okX13_isArray (l : Launch) (E : hc_E) (A : Nat → Prop) (d : Nat)  (hD : 2 ≤ d) {x1 : Int32} {σ : hc_St} {r : Int32} (h : fm_X13_isArray  x1 σ = some r) (am : Nat → Nat → Nat) : hc_M l hc_V0 yX13_isArray (ws_ yX13_isArray cX13_isArray 2 (some .boolean)) d E A [.ref (E.2.1 14), .int x1] am [] σ (.inl (some (.int r))) σ := by
  have hd1 : 1 ≤ d := by omega
  refine hc_enter2 (own := RX13) [(0, .ref (E.2.1 14)), (1, .int x1)] pl_X13 rfl hc_V0_st hc_G0_nd rfl (Nat.le_of_ble_eq_true rfl) (fun X hC hem => ?_)
  unfold fm_X13_isArray at h
  refine hr_aload_n hC dX13_isArray_0 rfl ?_
  refine hr_gO 6 hC F14_0 rfl dX13_isArray_1 q795 ?_
  refine hr_iload_n hC dX13_isArray_4 rfl ?_
  obtain ⟨r1, e2, h⟩ := hx_bind h
  refine hs_callV0 hC 6 [_] _ dX13_isArray_5 q2049 q1369 q1370 q320 q1371 np_X6 rfl OB_6 pd_X6_kind (Nat.le_of_ble_eq_true rfl) hd1 (okX6_kind l E A (d - 1)  (by omega)  e2 am) rfl ?_
  refine hr_bipush (v := 38) hC dX13_isArray_8 rfl ?_
  obtain ⟨r7, e8, h⟩ := hx_bind h
  have J9 : hc_At hc_V0 E 2 X 47 [] [.int r7] σ am [] := by
    obtain ⟨c27, h⟩ := hk_ok h
    obtain rfl := Option.some.inj h
    exact hr_zret hC (hb01_n c27) dX13_isArray_47
  clear h
  have h := e8
  refine hr_icmp_ne (x := _) hC 46 dX13_isArray_10 (by decide) (fun c6 => ?_) (fun c6 => ?_)
  · rw [if_neg c6] at h
    refine hr_iconst (v := 0) hC dX13_isArray_46 rfl ?_
    obtain rfl := Option.some.inj h
    exact hr_sub _ rfl (J9)
  · rw [if_pos c6] at h
    refine hr_aload_n hC dX13_isArray_13 rfl ?_
    refine hr_gO 6 hC F14_0 rfl dX13_isArray_14 q795 ?_
    refine hr_iload_n hC dX13_isArray_17 rfl ?_
    obtain ⟨r11, e12, h⟩ := hx_bind h
    refine hs_callV0 hC 6 [_] _ dX13_isArray_18 q2043 q1687 q1688 q320 q1689 np_X6 rfl OB_6 pd_X6_extra (Nat.le_of_ble_eq_true rfl) hd1 (okX6_extra l E A (d - 1)  (by omega)  e12 am) rfl ?_
    refine hr_if_lt (x := _) hC 46 dX13_isArray_21 (by decide) (fun c16 => ?_) (fun c16 => ?_)
    · rw [if_pos c16] at h
      refine hr_iconst (v := 0) hC dX13_isArray_46 rfl ?_
      obtain rfl := Option.some.inj h
      exact hr_sub _ rfl (J9)
    · rw [if_neg c16] at h
      refine hr_aload_n hC dX13_isArray_24 rfl ?_
      refine hr_gO 11 hC F14_2 rfl dX13_isArray_25 q797 ?_
      refine hr_aload_n hC dX13_isArray_28 rfl ?_
      refine hr_gO 6 hC F14_0 rfl dX13_isArray_29 q795 ?_
      refine hr_iload_n hC dX13_isArray_32 rfl ?_
      obtain ⟨r17, e18, h⟩ := hx_bind h
      refine hs_callV0 hC 6 [_] _ dX13_isArray_33 q2043 q1687 q1688 q320 q1689 np_X6 rfl OB_6 pd_X6_extra (Nat.le_of_ble_eq_true rfl) hd1 (okX6_extra l E A (d - 1)  (by omega)  e18 am) rfl ?_
      obtain ⟨r21, e22, h⟩ := hx_bind h
      refine hs_callV0 hC 11 [_] _ dX13_isArray_36 q2051 q1655 q1656 q325 q1657 np_X11 rfl OB_11 pd_X11_size (Nat.le_of_ble_eq_true rfl) hd1 (okX11_size l E A (d - 1)  (by omega)  e22 am) rfl ?_
      refine hr_if_eq (x := _) hC 46 dX13_isArray_39 (by decide) (fun c26 => ?_) (fun c26 => ?_)
      · rw [if_pos c26] at h
        refine hr_iconst (v := 0) hC dX13_isArray_46 rfl ?_
        obtain rfl := Option.some.inj h
        exact hr_sub _ rfl (J9)
      · rw [if_neg c26] at h
        refine hr_iconst (v := 1) hC dX13_isArray_42 rfl ?_
        refine hr_goto hC 47 dX13_isArray_43 (by decide) ?_
        obtain rfl := Option.some.inj h
        exact hr_sub _ rfl (J9)
/-- HomeCompiler$Generator.handOn(II)V -/
def fm_X13_handOn  (x1 : Int32) (x2 : Int32) (σ : hc_St) : Option hc_St := Option.bind (fm_X6_extra x1 σ) fun r1 => Option.bind (fm_X13_dest x2 σ) fun r5 => Option.bind (fm_X13_address r1 r5 0 σ) fun r9 => Option.bind (fm_X13_keep x2 r9) fun r13 => Option.bind (fm_X13_dest ((x2 + 1)) r13.2) fun r17 => Option.bind (fm_X13_length r1 r17 r13.2) fun r21 => Option.bind (fm_X13_keep ((x2 + 1)) r21) fun r25 => some r25.2
set_option maxRecDepth 20000 in
set_option maxHeartbeats 4000000 in
theorem okX13_handOn (l : Launch) (E : hc_E) (A : Nat → Prop) (d : Nat)  (hD : 12 ≤ d) {x1 : Int32} {x2 : Int32} {σ : hc_St} {r : hc_St} (h : fm_X13_handOn  x1 x2 σ = some r) (am : Nat → Nat → Nat) : hc_M l hc_V0 yX13_handOn (ws_ yX13_handOn cX13_handOn 6 none) d E A [.ref (E.2.1 14), .int x1, .int x2] am [13] σ (.inl none) r := by
  have hd1 : 1 ≤ d := by omega
  have hd8 : 9 ≤ d := by omega
  refine hc_enter2 (own := RX13) [(0, .ref (E.2.1 14)), (1, .int x1), (2, .int x2)] pl_X13 rfl hc_V0_st hc_G0_nd rfl (Nat.le_of_ble_eq_true rfl) (fun X hC hem => ?_)
  unfold fm_X13_handOn at h
  refine hr_aload_n hC dX13_handOn_0 rfl ?_
  refine hr_gO 6 hC F14_0 rfl dX13_handOn_1 q795 ?_
  refine hr_iload_n hC dX13_handOn_4 rfl ?_
  obtain ⟨r1, e2, h⟩ := hx_bind h
  refine hs_callV0 hC 6 [_] _ dX13_handOn_5 q2043 q1687 q1688 q320 q1689 np_X6 rfl OB_6 pd_X6_extra (Nat.le_of_ble_eq_true rfl) hd1 (okX6_extra l E A (d - 1)  (by omega)  e2 am) rfl ?_
  refine hr_istore_n hC dX13_handOn_8 (by decide) ?_
  refine hr_aload_n hC dX13_handOn_9 rfl ?_
  refine hr_iload_n hC dX13_handOn_10 rfl ?_
  refine hr_aload_n hC dX13_handOn_11 rfl ?_
  refine hr_iload_n hC dX13_handOn_12 rfl ?_
  obtain ⟨r5, e6, h⟩ := hx_bind h
  refine hs_callV0 hC 14 [_] _ dX13_handOn_13 q2135 q2137 qs115 q327 q2138 np_X13 rfl OB_14 pd_X13_dest (Nat.le_of_ble_eq_true rfl) hd1 (okX13_dest l E A (d - 1)  (by omega)  e6 am) rfl ?_
  refine hr_iconst (v := 0) hC dX13_handOn_16 rfl ?_
  obtain ⟨r9, e10, h⟩ := hx_bind h
  refine hs_callV hC 14 [_, _, _] _ dX13_handOn_17 q2177 q2179 qs123 q327 q2180 np_X13 rfl OB_14 pd_X13_address (Nat.le_of_ble_eq_true rfl) hd1 (okX13_address l E A (d - 1)  (by omega)  e10 am) (hc_rb rfl) rfl (fun am11 ha12 => ?_)
  refine hr_aload_n hC dX13_handOn_20 rfl ?_
  refine hr_iload_n hC dX13_handOn_21 rfl ?_
  obtain ⟨r13, e14, h⟩ := hx_bind h
  refine hs_callV hC 14 [_] _ dX13_handOn_22 q2142 q2144 qs116 q327 q2145 np_X13 rfl OB_14 pd_X13_keep (Nat.le_of_ble_eq_true rfl) hd1 (okX13_keep l E A (d - 1)  (by omega)  e14 am11) (hc_rb rfl) rfl (fun am15 ha16 => ?_)
  refine hr_istore hC dX13_handOn_25 (by decide) ?_
  refine hr_aload_n hC dX13_handOn_27 rfl ?_
  refine hr_iload_n hC dX13_handOn_28 rfl ?_
  refine hr_aload_n hC dX13_handOn_29 rfl ?_
  refine hr_iload_n hC dX13_handOn_30 rfl ?_
  refine hr_iconst (v := 1) hC dX13_handOn_31 rfl ?_
  refine hr_iadd hC dX13_handOn_32 ?_
  obtain ⟨r17, e18, h⟩ := hx_bind h
  refine hs_callV0 hC 14 [_] _ dX13_handOn_33 q2135 q2137 qs115 q327 q2138 np_X13 rfl OB_14 pd_X13_dest (Nat.le_of_ble_eq_true rfl) hd1 (okX13_dest l E A (d - 1)  (by omega)  e18 am15) rfl ?_
  obtain ⟨r21, e22, h⟩ := hx_bind h
  refine hs_callV hC 14 [_, _] _ dX13_handOn_36 q2171 q2173 qs122 q327 q2174 np_X13 rfl OB_14 pd_X13_length (Nat.le_of_ble_eq_true rfl) hd1 (okX13_length l E A (d - 1)  (by omega)  e22 am15) (hc_rb rfl) rfl (fun am23 ha24 => ?_)
  refine hr_aload_n hC dX13_handOn_39 rfl ?_
  refine hr_iload_n hC dX13_handOn_40 rfl ?_
  refine hr_iconst (v := 1) hC dX13_handOn_41 rfl ?_
  refine hr_iadd hC dX13_handOn_42 ?_
  obtain ⟨r25, e26, h⟩ := hx_bind h
  refine hs_callV hC 14 [_] _ dX13_handOn_43 q2142 q2144 qs116 q327 q2145 np_X13 rfl OB_14 pd_X13_keep (Nat.le_of_ble_eq_true rfl) hd1 (okX13_keep l E A (d - 1)  (by omega)  e26 am23) (hc_rb rfl) rfl (fun am27 ha28 => ?_)
  refine hr_istore hC dX13_handOn_46 (by decide) ?_
  obtain rfl := Option.some.inj h
  exact hr_vret hC dX13_handOn_48
def lp_X13_save_2 (n : Nat) : Nat → Int32 → Int32 → hc_St → Option (hc_St)
  | 0, _, _, _ => none
  | m + 1, y1, y2, σ => if y1 ≤ y2 then (some (σ)) else (if 12 ≤ y2 then (some (σ)) else (Option.bind (fm_X13_met y2 σ) fun r5 => Option.bind (fm_X13_temp y2 r5) fun r9 => Option.bind (fm_X13_slot y2 r5) fun r13 => Option.bind (fm_X12_storeAt r9 2 r13 7 r5) fun r17 => lp_X13_save_2 n m y1 ((y2 + 1)) r17))
/-- HomeCompiler$Generator.save(I)V -/
def fm_X13_save (n : Nat) (x1 : Int32) (σ : hc_St) : Option hc_St := Option.bind (lp_X13_save_2 n n x1 0 σ) fun r21 => some r21
set_option maxRecDepth 20000 in
set_option maxHeartbeats 4000000 in
theorem ll_X13_save_2 {l : Launch} {E : hc_E} {A : Nat → Prop} {am : Nat → Nat → Nat} {d : Nat} {X : hc_X} (n : Nat) (hD : 11 ≤ d) (hem : X.2.2.2.2.2.2.2.2.2.1.exceptionTable.isEmpty = true) {oc : hc_Oc} {σe : hc_St} (hC : hc_C hc_V0 E cX13_save 3 RX13 none d oc σe (l, A, am, [13]) X) : ∀ (m : Nat) (σ : hc_St) (y1 : Int32) (y2 : Int32) (rl : hc_St), lp_X13_save_2 n m y1 y2 σ = some rl → (∀ am1, hc_At hc_V0 E 3 X 42 [] [] rl am1 []) → ∀ am1, hc_At hc_V0 E 3 X 2 [(0, .ref (E.2.1 14)), (1, .int y1), (2, .int y2)] [] σ am1 [] := by
  have hd1 : 1 ≤ d := by omega
  have hd8 : 9 ≤ d := by omega
  intro m
  induction m with
  | zero =>
    intro σ y1 y2 rl h
    cases h
  | succ m ih =>
    intro σ y1 y2 rl h JX am1
    rw [lp_X13_save_2] at h
    refine hr_iload_n hC dX13_save_2 rfl ?_
    refine hr_iload_n hC dX13_save_3 rfl ?_
    refine hr_icmp_ge (x := _) hC 42 dX13_save_4 (by decide) (fun c2 => ?_) (fun c2 => ?_)
    · rw [if_pos c2] at h
      obtain rfl := Option.some.inj h
      exact hr_sub _ rfl (JX am1)
    · rw [if_neg c2] at h
      refine hr_iload_n hC dX13_save_7 rfl ?_
      refine hr_bipush (v := 12) hC dX13_save_8 rfl ?_
      refine hr_icmp_ge (x := _) hC 42 dX13_save_10 (by decide) (fun c4 => ?_) (fun c4 => ?_)
      · rw [if_pos c4] at h
        obtain rfl := Option.some.inj h
        exact hr_sub _ rfl (JX am1)
      · rw [if_neg c4] at h
        refine hr_aload_n hC dX13_save_13 rfl ?_
        refine hr_iload_n hC dX13_save_14 rfl ?_
        obtain ⟨r5, e6, h⟩ := hx_bind h
        refine hs_callV0 hC 14 [_] _ dX13_save_15 q2146 q2148 qs117 q327 q2149 np_X13 rfl OB_14 pd_X13_met (Nat.le_of_ble_eq_true rfl) hd1 (okX13_met l E A (d - 1)  (by omega)  e6 am1) rfl ?_
        refine hr_aload_n hC dX13_save_18 rfl ?_
        refine hr_gO 13 hC F14_5 rfl dX13_save_19 q800 ?_
        refine hr_iload_n hC dX13_save_22 rfl ?_
        obtain ⟨r9, e10, h⟩ := hx_bind h
        refine hs_callS0 hC [_] _ dX13_save_23 q2139 q2140 q327 q2141 np_X13 rfl pd_X13_temp (Nat.le_of_ble_eq_true rfl) hd1 (okX13_temp l E A (d - 1)  (by omega)  e10 am1) rfl ?_
        refine hr_iconst (v := 2) hC dX13_save_26 rfl ?_
        refine hr_iload_n hC dX13_save_27 rfl ?_
        obtain ⟨r13, e14, h⟩ := hx_bind h
        refine hs_callS0 hC [_] _ dX13_save_28 q2151 q2152 q327 q2153 np_X13 rfl pd_X13_slot (Nat.le_of_ble_eq_true rfl) hd1 (okX13_slot l E A (d - 1)  (by omega)  e14 am1) rfl ?_
        refine hr_bipush (v := 7) hC dX13_save_31 rfl ?_
        obtain ⟨r17, e18, h⟩ := hx_bind h
        refine hs_callV hC 13 [_, _, _, _] _ dX13_save_33 q2020 q2021 q2022 q326 q2023 np_X12 rfl OB_13 pd_X12_storeAt (Nat.le_of_ble_eq_true rfl) hd1 (okX12_storeAt l E A (d - 1)  (by omega)  e18 am1) (hc_rb rfl) rfl (fun am19 ha20 => ?_)
        refine hr_iinc (v := y2 + 1) hC dX13_save_36 rfl rfl (by decide) ?_
        refine hr_goto hC 2 dX13_save_39 (by decide) ?_
        exact hr_sub _ rfl (ih _ _ _ _ h JX am19)
set_option maxRecDepth 20000 in
set_option maxHeartbeats 4000000 in
theorem okX13_save (l : Launch) (E : hc_E) (A : Nat → Prop) (d : Nat) (n : Nat) (hD : 11 ≤ d) {x1 : Int32} {σ : hc_St} {r : hc_St} (h : fm_X13_save n x1 σ = some r) (am : Nat → Nat → Nat) : hc_M l hc_V0 yX13_save (ws_ yX13_save cX13_save 3 none) d E A [.ref (E.2.1 14), .int x1] am [13] σ (.inl none) r := by
  have hd1 : 1 ≤ d := by omega
  have hd8 : 9 ≤ d := by omega
  refine hc_enter2 (own := RX13) [(0, .ref (E.2.1 14)), (1, .int x1)] pl_X13 rfl hc_V0_st hc_G0_nd rfl (Nat.le_of_ble_eq_true rfl) (fun X hC hem => ?_)
  unfold fm_X13_save at h
  refine hr_iconst (v := 0) hC dX13_save_0 rfl ?_
  refine hr_istore_n hC dX13_save_1 (by decide) ?_
  obtain ⟨r21, e22, h⟩ := hx_bind h
  refine hr_sub _ rfl (ll_X13_save_2 n hD hem hC n _ _ _ _ e22 (fun am25 => ?_) am)
  obtain rfl := Option.some.inj h
  exact hr_vret hC dX13_save_42
def lp_X13_takeBack_2 (n : Nat) : Nat → Int32 → Int32 → hc_St → Option (hc_St)
  | 0, _, _, _ => none
  | m + 1, y1, y2, σ => if y1 ≤ y2 then (some (σ)) else (if 12 ≤ y2 then (some (σ)) else (Option.bind (fm_X13_temp y2 σ) fun r5 => Option.bind (fm_X13_slot y2 σ) fun r9 => Option.bind (fm_X12_loadAt r5 2 r9 7 σ) fun r13 => lp_X13_takeBack_2 n m y1 ((y2 + 1)) r13))
/-- HomeCompiler$Generator.takeBack(I)V -/
def fm_X13_takeBack (n : Nat) (x1 : Int32) (σ : hc_St) : Option hc_St := Option.bind (lp_X13_takeBack_2 n n x1 0 σ) fun r17 => some r17
set_option maxRecDepth 20000 in
set_option maxHeartbeats 4000000 in
theorem ll_X13_takeBack_2 {l : Launch} {E : hc_E} {A : Nat → Prop} {am : Nat → Nat → Nat} {d : Nat} {X : hc_X} (n : Nat) (hD : 11 ≤ d) (hem : X.2.2.2.2.2.2.2.2.2.1.exceptionTable.isEmpty = true) {oc : hc_Oc} {σe : hc_St} (hC : hc_C hc_V0 E cX13_takeBack 3 RX13 none d oc σe (l, A, am, [13]) X) : ∀ (m : Nat) (σ : hc_St) (y1 : Int32) (y2 : Int32) (rl : hc_St), lp_X13_takeBack_2 n m y1 y2 σ = some rl → (∀ am1, hc_At hc_V0 E 3 X 37 [] [] rl am1 []) → ∀ am1, hc_At hc_V0 E 3 X 2 [(0, .ref (E.2.1 14)), (1, .int y1), (2, .int y2)] [] σ am1 [] := by
  have hd1 : 1 ≤ d := by omega
  have hd8 : 9 ≤ d := by omega
  intro m
  induction m with
  | zero =>
    intro σ y1 y2 rl h
    cases h
  | succ m ih =>
    intro σ y1 y2 rl h JX am1
    rw [lp_X13_takeBack_2] at h
    refine hr_iload_n hC dX13_takeBack_2 rfl ?_
    refine hr_iload_n hC dX13_takeBack_3 rfl ?_
    refine hr_icmp_ge (x := _) hC 37 dX13_takeBack_4 (by decide) (fun c2 => ?_) (fun c2 => ?_)
    · rw [if_pos c2] at h
      obtain rfl := Option.some.inj h
      exact hr_sub _ rfl (JX am1)
    · rw [if_neg c2] at h
      refine hr_iload_n hC dX13_takeBack_7 rfl ?_
      refine hr_bipush (v := 12) hC dX13_takeBack_8 rfl ?_
      refine hr_icmp_ge (x := _) hC 37 dX13_takeBack_10 (by decide) (fun c4 => ?_) (fun c4 => ?_)
      · rw [if_pos c4] at h
        obtain rfl := Option.some.inj h
        exact hr_sub _ rfl (JX am1)
      · rw [if_neg c4] at h
        refine hr_aload_n hC dX13_takeBack_13 rfl ?_
        refine hr_gO 13 hC F14_5 rfl dX13_takeBack_14 q800 ?_
        refine hr_iload_n hC dX13_takeBack_17 rfl ?_
        obtain ⟨r5, e6, h⟩ := hx_bind h
        refine hs_callS0 hC [_] _ dX13_takeBack_18 q2139 q2140 q327 q2141 np_X13 rfl pd_X13_temp (Nat.le_of_ble_eq_true rfl) hd1 (okX13_temp l E A (d - 1)  (by omega)  e6 am1) rfl ?_
        refine hr_iconst (v := 2) hC dX13_takeBack_21 rfl ?_
        refine hr_iload_n hC dX13_takeBack_22 rfl ?_
        obtain ⟨r9, e10, h⟩ := hx_bind h
        refine hs_callS0 hC [_] _ dX13_takeBack_23 q2151 q2152 q327 q2153 np_X13 rfl pd_X13_slot (Nat.le_of_ble_eq_true rfl) hd1 (okX13_slot l E A (d - 1)  (by omega)  e10 am1) rfl ?_
        refine hr_bipush (v := 7) hC dX13_takeBack_26 rfl ?_
        obtain ⟨r13, e14, h⟩ := hx_bind h
        refine hs_callV hC 13 [_, _, _, _] _ dX13_takeBack_28 q2056 q2057 q2058 q326 q2059 np_X12 rfl OB_13 pd_X12_loadAt (Nat.le_of_ble_eq_true rfl) hd1 (okX12_loadAt l E A (d - 1)  (by omega)  e14 am1) (hc_rb rfl) rfl (fun am15 ha16 => ?_)
        refine hr_iinc (v := y2 + 1) hC dX13_takeBack_31 rfl rfl (by decide) ?_
        refine hr_goto hC 2 dX13_takeBack_34 (by decide) ?_
        exact hr_sub _ rfl (ih _ _ _ _ h JX am15)
set_option maxRecDepth 20000 in
set_option maxHeartbeats 4000000 in
theorem okX13_takeBack (l : Launch) (E : hc_E) (A : Nat → Prop) (d : Nat) (n : Nat) (hD : 11 ≤ d) {x1 : Int32} {σ : hc_St} {r : hc_St} (h : fm_X13_takeBack n x1 σ = some r) (am : Nat → Nat → Nat) : hc_M l hc_V0 yX13_takeBack (ws_ yX13_takeBack cX13_takeBack 3 none) d E A [.ref (E.2.1 14), .int x1] am [13] σ (.inl none) r := by
  have hd1 : 1 ≤ d := by omega
  have hd8 : 9 ≤ d := by omega
  refine hc_enter2 (own := RX13) [(0, .ref (E.2.1 14)), (1, .int x1)] pl_X13 rfl hc_V0_st hc_G0_nd rfl (Nat.le_of_ble_eq_true rfl) (fun X hC hem => ?_)
  unfold fm_X13_takeBack at h
  refine hr_iconst (v := 0) hC dX13_takeBack_0 rfl ?_
  refine hr_istore_n hC dX13_takeBack_1 (by decide) ?_
  obtain ⟨r17, e18, h⟩ := hx_bind h
  refine hr_sub _ rfl (ll_X13_takeBack_2 n hD hem hC n _ _ _ _ e18 (fun am21 => ?_) am)
  obtain rfl := Option.some.inj h
  exact hr_vret hC dX13_takeBack_37
/-- HomeCompiler$Generator.within(I)I -/
def fm_X13_within  (x0 : Int32) (σ : hc_St) : Option Int32 := if x0 = 138 then (some 43) else if x0 = 139 then (some 45) else if x0 = 140 then (some 42) else if x0 = 141 then (some 47) else if x0 = 142 then (some 37) else if x0 = 143 then (some 134) else if x0 = 144 then (some 135) else if x0 = 145 then (some 38) else if x0 = 146 then (some 124) else if x0 = 147 then (some 94) else (some 0)
set_option maxRecDepth 20000 in
set_option maxHeartbeats 4000000 in
theorem okX13_within (l : Launch) (E : hc_E) (A : Nat → Prop) (d : Nat)  (hD : 1 ≤ d) {x0 : Int32} {σ : hc_St} {r : Int32} (h : fm_X13_within  x0 σ = some r) (am : Nat → Nat → Nat) : hc_M l hc_V0 yX13_within (ws_ yX13_within cX13_within 1 (some .int)) d E A [.int x0] am [] σ (.inl (some (.int r))) σ := by
  have hd1 : 1 ≤ d := by omega
  refine hc_enter2 (own := RX13) [(0, .int x0)] pl_X13 rfl hc_V0_st hc_G0_nd rfl (Nat.le_of_ble_eq_true rfl) (fun X hC hem => ?_)
  unfold fm_X13_within at h
  refine hr_iload_n hC dX13_within_0 rfl ?_
  by_cases c1 : x0 = 138
  · rw [if_pos c1] at h
    refine hr_tableIn hC 56 dX13_within_1 (by rw [c1] <;> decide) (by rw [c1] <;> decide) (by rw [c1] <;> rfl) (by decide) ?_
    refine hr_bipush (v := 43) hC dX13_within_56 rfl ?_
    obtain rfl := Option.some.inj h
    exact hr_iret hC dX13_within_58
  rw [if_neg c1] at h
  by_cases c2 : x0 = 139
  · rw [if_pos c2] at h
    refine hr_tableIn hC 59 dX13_within_1 (by rw [c2] <;> decide) (by rw [c2] <;> decide) (by rw [c2] <;> rfl) (by decide) ?_
    refine hr_bipush (v := 45) hC dX13_within_59 rfl ?_
    obtain rfl := Option.some.inj h
    exact hr_iret hC dX13_within_61
  rw [if_neg c2] at h
  by_cases c3 : x0 = 140
  · rw [if_pos c3] at h
    refine hr_tableIn hC 62 dX13_within_1 (by rw [c3] <;> decide) (by rw [c3] <;> decide) (by rw [c3] <;> rfl) (by decide) ?_
    refine hr_bipush (v := 42) hC dX13_within_62 rfl ?_
    obtain rfl := Option.some.inj h
    exact hr_iret hC dX13_within_64
  rw [if_neg c3] at h
  by_cases c4 : x0 = 141
  · rw [if_pos c4] at h
    refine hr_tableIn hC 65 dX13_within_1 (by rw [c4] <;> decide) (by rw [c4] <;> decide) (by rw [c4] <;> rfl) (by decide) ?_
    refine hr_bipush (v := 47) hC dX13_within_65 rfl ?_
    obtain rfl := Option.some.inj h
    exact hr_iret hC dX13_within_67
  rw [if_neg c4] at h
  by_cases c5 : x0 = 142
  · rw [if_pos c5] at h
    refine hr_tableIn hC 68 dX13_within_1 (by rw [c5] <;> decide) (by rw [c5] <;> decide) (by rw [c5] <;> rfl) (by decide) ?_
    refine hr_bipush (v := 37) hC dX13_within_68 rfl ?_
    obtain rfl := Option.some.inj h
    exact hr_iret hC dX13_within_70
  rw [if_neg c5] at h
  by_cases c6 : x0 = 143
  · rw [if_pos c6] at h
    refine hr_tableIn hC 71 dX13_within_1 (by rw [c6] <;> decide) (by rw [c6] <;> decide) (by rw [c6] <;> rfl) (by decide) ?_
    refine hr_sipush (v := 134) hC dX13_within_71 rfl ?_
    obtain rfl := Option.some.inj h
    exact hr_iret hC dX13_within_74
  rw [if_neg c6] at h
  by_cases c7 : x0 = 144
  · rw [if_pos c7] at h
    refine hr_tableIn hC 75 dX13_within_1 (by rw [c7] <;> decide) (by rw [c7] <;> decide) (by rw [c7] <;> rfl) (by decide) ?_
    refine hr_sipush (v := 135) hC dX13_within_75 rfl ?_
    obtain rfl := Option.some.inj h
    exact hr_iret hC dX13_within_78
  rw [if_neg c7] at h
  by_cases c8 : x0 = 145
  · rw [if_pos c8] at h
    refine hr_tableIn hC 79 dX13_within_1 (by rw [c8] <;> decide) (by rw [c8] <;> decide) (by rw [c8] <;> rfl) (by decide) ?_
    refine hr_bipush (v := 38) hC dX13_within_79 rfl ?_
    obtain rfl := Option.some.inj h
    exact hr_iret hC dX13_within_81
  rw [if_neg c8] at h
  by_cases c9 : x0 = 146
  · rw [if_pos c9] at h
    refine hr_tableIn hC 82 dX13_within_1 (by rw [c9] <;> decide) (by rw [c9] <;> decide) (by rw [c9] <;> rfl) (by decide) ?_
    refine hr_bipush (v := 124) hC dX13_within_82 rfl ?_
    obtain rfl := Option.some.inj h
    exact hr_iret hC dX13_within_84
  rw [if_neg c9] at h
  by_cases c10 : x0 = 147
  · rw [if_pos c10] at h
    refine hr_tableIn hC 85 dX13_within_1 (by rw [c10] <;> decide) (by rw [c10] <;> decide) (by rw [c10] <;> rfl) (by decide) ?_
    refine hr_bipush (v := 94) hC dX13_within_85 rfl ?_
    obtain rfl := Option.some.inj h
    exact hr_iret hC dX13_within_87
  rw [if_neg c10] at h
  refine hr_tableD hC 88 dX13_within_1 (ks := [138, 139, 140, 141, 142, 143, 144, 145, 146, 147]) (hc_l1 (hc_ne c1 rfl) (hc_l1 (hc_ne c2 rfl) (hc_l1 (hc_ne c3 rfl) (hc_l1 (hc_ne c4 rfl) (hc_l1 (hc_ne c5 rfl) (hc_l1 (hc_ne c6 rfl) (hc_l1 (hc_ne c7 rfl) (hc_l1 (hc_ne c8 rfl) (hc_l1 (hc_ne c9 rfl) (hc_l1 (hc_ne c10 rfl) hc_l0)))))))))) (by decide) (by decide) (by decide) ?_
  refine hr_iconst (v := 0) hC dX13_within_88 rfl ?_
  obtain rfl := Option.some.inj h
  exact hr_iret hC dX13_within_89
/-- HomeCompiler$Generator.compare(IIII)V -/
def fm_X13_compare  (x1 : Int32) (x2 : Int32) (x3 : Int32) (x4 : Int32) (σ : hc_St) : Option hc_St := Option.bind (α := hc_St) (if x1 = 60 then (Option.bind (fm_X12_both 2 0 x2 x3 x4 σ) fun r13 => some (r13)) else if x1 = 62 then (Option.bind (fm_X12_both 2 0 x2 x4 x3 σ) fun r17 => some (r17)) else if x1 = 130 then (Option.bind (fm_X12_both 4 0 x2 x3 x4 σ) fun r21 => Option.bind (fm_X12_number 3 x2 x2 1 r21) fun r25 => some (r25)) else if x1 = 132 then (Option.bind (fm_X12_both 2 0 x2 x4 x3 σ) fun r29 => Option.bind (fm_X12_number 4 x2 x2 1 r29) fun r33 => some (r33)) else if x1 = 133 then (Option.bind (fm_X12_both 2 0 x2 x3 x4 σ) fun r37 => Option.bind (fm_X12_number 4 x2 x2 1 r37) fun r41 => some (r41)) else (Option.bind (fm_X12_both 4 0 x2 x3 x4 σ) fun r5 => Option.bind (fm_X12_both 3 0 x2 0 x2 r5) fun r9 => some (r9))) fun r1 => some r1
set_option maxRecDepth 20000 in
set_option maxHeartbeats 4000000 in
theorem okX13_compare (l : Launch) (E : hc_E) (A : Nat → Prop) (d : Nat)  (hD : 7 ≤ d) {x1 : Int32} {x2 : Int32} {x3 : Int32} {x4 : Int32} {σ : hc_St} {r : hc_St} (h : fm_X13_compare  x1 x2 x3 x4 σ = some r) (am : Nat → Nat → Nat) : hc_M l hc_V0 yX13_compare (ws_ yX13_compare cX13_compare 5 none) d E A [.ref (E.2.1 14), .int x1, .int x2, .int x3, .int x4] am [13] σ (.inl none) r := by
  have hd1 : 1 ≤ d := by omega
  refine hc_enter2 (own := RX13) [(0, .ref (E.2.1 14)), (1, .int x1), (2, .int x2), (3, .int x3), (4, .int x4)] pl_X13 rfl hc_V0_st hc_G0_nd rfl (Nat.le_of_ble_eq_true rfl) (fun X hC hem => ?_)
  unfold fm_X13_compare at h
  refine hr_iload_n hC dX13_compare_0 rfl ?_
  obtain ⟨r1, e2, h⟩ := hx_bind h
  have J3 : ∀ am50, hc_At hc_V0 E 5 X 190 [] [] r1 am50 [] := by
    intro am50
    obtain rfl := Option.some.inj h
    exact hr_vret hC dX13_compare_190
  clear h
  have h := e2
  by_cases c45 : x1 = 60
  · rw [if_pos c45] at h
    refine hr_lookup hC 52 dX13_compare_1 (by decide) (by rw [c45] <;> rfl) (by decide) ?_
    refine hr_aload_n hC dX13_compare_52 rfl ?_
    refine hr_gO 13 hC F14_5 rfl dX13_compare_53 q800 ?_
    refine hr_iconst (v := 2) hC dX13_compare_56 rfl ?_
    refine hr_iconst (v := 0) hC dX13_compare_57 rfl ?_
    refine hr_iload_n hC dX13_compare_58 rfl ?_
    refine hr_iload_n hC dX13_compare_59 rfl ?_
    refine hr_iload hC dX13_compare_60 rfl ?_
    obtain ⟨r13, e14, h⟩ := hx_bind h
    refine hs_callV hC 13 [_, _, _, _, _] _ dX13_compare_62 q2015 q2000 q2001 q326 q2002 np_X12 rfl OB_13 pd_X12_both (Nat.le_of_ble_eq_true rfl) hd1 (okX12_both l E A (d - 1)  (by omega)  e14 am) (hc_rb rfl) rfl (fun am15 ha16 => ?_)
    refine hr_goto hC 190 dX13_compare_65 (by decide) ?_
    obtain rfl := Option.some.inj h
    exact hr_sub _ rfl (J3 am15)
  rw [if_neg c45] at h
  by_cases c46 : x1 = 62
  · rw [if_pos c46] at h
    refine hr_lookup hC 68 dX13_compare_1 (by decide) (by rw [c46] <;> rfl) (by decide) ?_
    refine hr_aload_n hC dX13_compare_68 rfl ?_
    refine hr_gO 13 hC F14_5 rfl dX13_compare_69 q800 ?_
    refine hr_iconst (v := 2) hC dX13_compare_72 rfl ?_
    refine hr_iconst (v := 0) hC dX13_compare_73 rfl ?_
    refine hr_iload_n hC dX13_compare_74 rfl ?_
    refine hr_iload hC dX13_compare_75 rfl ?_
    refine hr_iload_n hC dX13_compare_77 rfl ?_
    obtain ⟨r17, e18, h⟩ := hx_bind h
    refine hs_callV hC 13 [_, _, _, _, _] _ dX13_compare_78 q2015 q2000 q2001 q326 q2002 np_X12 rfl OB_13 pd_X12_both (Nat.le_of_ble_eq_true rfl) hd1 (okX12_both l E A (d - 1)  (by omega)  e18 am) (hc_rb rfl) rfl (fun am19 ha20 => ?_)
    refine hr_goto hC 190 dX13_compare_81 (by decide) ?_
    obtain rfl := Option.some.inj h
    exact hr_sub _ rfl (J3 am19)
  rw [if_neg c46] at h
  by_cases c47 : x1 = 130
  · rw [if_pos c47] at h
    refine hr_lookup hC 138 dX13_compare_1 (by decide) (by rw [c47] <;> rfl) (by decide) ?_
    refine hr_aload_n hC dX13_compare_138 rfl ?_
    refine hr_gO 13 hC F14_5 rfl dX13_compare_139 q800 ?_
    refine hr_iconst (v := 4) hC dX13_compare_142 rfl ?_
    refine hr_iconst (v := 0) hC dX13_compare_143 rfl ?_
    refine hr_iload_n hC dX13_compare_144 rfl ?_
    refine hr_iload_n hC dX13_compare_145 rfl ?_
    refine hr_iload hC dX13_compare_146 rfl ?_
    obtain ⟨r21, e22, h⟩ := hx_bind h
    refine hs_callV hC 13 [_, _, _, _, _] _ dX13_compare_148 q2015 q2000 q2001 q326 q2002 np_X12 rfl OB_13 pd_X12_both (Nat.le_of_ble_eq_true rfl) hd1 (okX12_both l E A (d - 1)  (by omega)  e22 am) (hc_rb rfl) rfl (fun am23 ha24 => ?_)
    refine hr_aload_n hC dX13_compare_151 rfl ?_
    refine hr_gO 13 hC F14_5 rfl dX13_compare_152 q800 ?_
    refine hr_iconst (v := 3) hC dX13_compare_155 rfl ?_
    refine hr_iload_n hC dX13_compare_156 rfl ?_
    refine hr_iload_n hC dX13_compare_157 rfl ?_
    refine hr_iconst (v := 1) hC dX13_compare_158 rfl ?_
    obtain ⟨r25, e26, h⟩ := hx_bind h
    refine hs_callV hC 13 [_, _, _, _] _ dX13_compare_159 q1992 q1913 q1914 q326 q1915 np_X12 rfl OB_13 pd_X12_number (Nat.le_of_ble_eq_true rfl) hd1 (okX12_number l E A (d - 1)  (by omega)  e26 am23) (hc_rb rfl) rfl (fun am27 ha28 => ?_)
    refine hr_goto hC 190 dX13_compare_162 (by decide) ?_
    obtain rfl := Option.some.inj h
    exact hr_sub _ rfl (J3 am27)
  rw [if_neg c47] at h
  by_cases c48 : x1 = 132
  · rw [if_pos c48] at h
    refine hr_lookup hC 84 dX13_compare_1 (by decide) (by rw [c48] <;> rfl) (by decide) ?_
    refine hr_aload_n hC dX13_compare_84 rfl ?_
    refine hr_gO 13 hC F14_5 rfl dX13_compare_85 q800 ?_
    refine hr_iconst (v := 2) hC dX13_compare_88 rfl ?_
    refine hr_iconst (v := 0) hC dX13_compare_89 rfl ?_
    refine hr_iload_n hC dX13_compare_90 rfl ?_
    refine hr_iload hC dX13_compare_91 rfl ?_
    refine hr_iload_n hC dX13_compare_93 rfl ?_
    obtain ⟨r29, e30, h⟩ := hx_bind h
    refine hs_callV hC 13 [_, _, _, _, _] _ dX13_compare_94 q2015 q2000 q2001 q326 q2002 np_X12 rfl OB_13 pd_X12_both (Nat.le_of_ble_eq_true rfl) hd1 (okX12_both l E A (d - 1)  (by omega)  e30 am) (hc_rb rfl) rfl (fun am31 ha32 => ?_)
    refine hr_aload_n hC dX13_compare_97 rfl ?_
    refine hr_gO 13 hC F14_5 rfl dX13_compare_98 q800 ?_
    refine hr_iconst (v := 4) hC dX13_compare_101 rfl ?_
    refine hr_iload_n hC dX13_compare_102 rfl ?_
    refine hr_iload_n hC dX13_compare_103 rfl ?_
    refine hr_iconst (v := 1) hC dX13_compare_104 rfl ?_
    obtain ⟨r33, e34, h⟩ := hx_bind h
    refine hs_callV hC 13 [_, _, _, _] _ dX13_compare_105 q1992 q1913 q1914 q326 q1915 np_X12 rfl OB_13 pd_X12_number (Nat.le_of_ble_eq_true rfl) hd1 (okX12_number l E A (d - 1)  (by omega)  e34 am31) (hc_rb rfl) rfl (fun am35 ha36 => ?_)
    refine hr_goto hC 190 dX13_compare_108 (by decide) ?_
    obtain rfl := Option.some.inj h
    exact hr_sub _ rfl (J3 am35)
  rw [if_neg c48] at h
  by_cases c49 : x1 = 133
  · rw [if_pos c49] at h
    refine hr_lookup hC 111 dX13_compare_1 (by decide) (by rw [c49] <;> rfl) (by decide) ?_
    refine hr_aload_n hC dX13_compare_111 rfl ?_
    refine hr_gO 13 hC F14_5 rfl dX13_compare_112 q800 ?_
    refine hr_iconst (v := 2) hC dX13_compare_115 rfl ?_
    refine hr_iconst (v := 0) hC dX13_compare_116 rfl ?_
    refine hr_iload_n hC dX13_compare_117 rfl ?_
    refine hr_iload_n hC dX13_compare_118 rfl ?_
    refine hr_iload hC dX13_compare_119 rfl ?_
    obtain ⟨r37, e38, h⟩ := hx_bind h
    refine hs_callV hC 13 [_, _, _, _, _] _ dX13_compare_121 q2015 q2000 q2001 q326 q2002 np_X12 rfl OB_13 pd_X12_both (Nat.le_of_ble_eq_true rfl) hd1 (okX12_both l E A (d - 1)  (by omega)  e38 am) (hc_rb rfl) rfl (fun am39 ha40 => ?_)
    refine hr_aload_n hC dX13_compare_124 rfl ?_
    refine hr_gO 13 hC F14_5 rfl dX13_compare_125 q800 ?_
    refine hr_iconst (v := 4) hC dX13_compare_128 rfl ?_
    refine hr_iload_n hC dX13_compare_129 rfl ?_
    refine hr_iload_n hC dX13_compare_130 rfl ?_
    refine hr_iconst (v := 1) hC dX13_compare_131 rfl ?_
    obtain ⟨r41, e42, h⟩ := hx_bind h
    refine hs_callV hC 13 [_, _, _, _] _ dX13_compare_132 q1992 q1913 q1914 q326 q1915 np_X12 rfl OB_13 pd_X12_number (Nat.le_of_ble_eq_true rfl) hd1 (okX12_number l E A (d - 1)  (by omega)  e42 am39) (hc_rb rfl) rfl (fun am43 ha44 => ?_)
    refine hr_goto hC 190 dX13_compare_135 (by decide) ?_
    obtain rfl := Option.some.inj h
    exact hr_sub _ rfl (J3 am43)
  rw [if_neg c49] at h
  refine hr_lookup hC 165 dX13_compare_1 (by decide) (hc_lkD (hc_l1 (hc_ne c45 rfl) (hc_l1 (hc_ne c46 rfl) (hc_l1 (hc_ne c47 rfl) (hc_l1 (hc_ne c48 rfl) (hc_l1 (hc_ne c49 rfl) hc_l0)))))) (by decide) ?_
  refine hr_aload_n hC dX13_compare_165 rfl ?_
  refine hr_gO 13 hC F14_5 rfl dX13_compare_166 q800 ?_
  refine hr_iconst (v := 4) hC dX13_compare_169 rfl ?_
  refine hr_iconst (v := 0) hC dX13_compare_170 rfl ?_
  refine hr_iload_n hC dX13_compare_171 rfl ?_
  refine hr_iload_n hC dX13_compare_172 rfl ?_
  refine hr_iload hC dX13_compare_173 rfl ?_
  obtain ⟨r5, e6, h⟩ := hx_bind h
  refine hs_callV hC 13 [_, _, _, _, _] _ dX13_compare_175 q2015 q2000 q2001 q326 q2002 np_X12 rfl OB_13 pd_X12_both (Nat.le_of_ble_eq_true rfl) hd1 (okX12_both l E A (d - 1)  (by omega)  e6 am) (hc_rb rfl) rfl (fun am7 ha8 => ?_)
  refine hr_aload_n hC dX13_compare_178 rfl ?_
  refine hr_gO 13 hC F14_5 rfl dX13_compare_179 q800 ?_
  refine hr_iconst (v := 3) hC dX13_compare_182 rfl ?_
  refine hr_iconst (v := 0) hC dX13_compare_183 rfl ?_
  refine hr_iload_n hC dX13_compare_184 rfl ?_
  refine hr_iconst (v := 0) hC dX13_compare_185 rfl ?_
  refine hr_iload_n hC dX13_compare_186 rfl ?_
  obtain ⟨r9, e10, h⟩ := hx_bind h
  refine hs_callV hC 13 [_, _, _, _, _] _ dX13_compare_187 q2015 q2000 q2001 q326 q2002 np_X12 rfl OB_13 pd_X12_both (Nat.le_of_ble_eq_true rfl) hd1 (okX12_both l E A (d - 1)  (by omega)  e10 am7) (hc_rb rfl) rfl (fun am11 ha12 => ?_)
  obtain rfl := Option.some.inj h
  exact hr_sub _ rfl (J3 am11)
