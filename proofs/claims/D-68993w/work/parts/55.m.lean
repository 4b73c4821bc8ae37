set_option maxRecDepth 20000
/-- HomeCompilerModel.doOwn(I)V -/
def fm_X21_doOwn (n : Nat) (x1 : Int32) (σ : hc_St) : Option hc_St := if x1 ≤ 0 then (hl (α := Int32) ((if x1 = 0 then 1 else (if x1 = 7 then 1 else (if x1 = 8 then 1 else 0)))) fun v5 => Option.bind (α := hc_St × Int32 × Int32) (if v5 = 0 then (some (σ, 0, 0)) else (Option.bind (fm_X21_take_2  σ) fun r12 => Option.bind (fm_X21_take_2  r12.2) fun r16 => some (r16.2, r12.1, r16.1))) fun r8 => Option.bind (α := hc_St × Int32) (if v5 = 0 then (Option.bind (fm_X21_take_2  r8.1) fun r26 => some (r26.2, r26.1)) else (if x1 = 0 then (some (r8.1, 0)) else (Option.bind (fm_X21_take_2  r8.1) fun r32 => some (r32.2, r32.1)))) fun r22 => Option.bind (α := hc_St) (if x1 = 0 then (Option.bind (fm_X21_done r8.2.1 r22.1) fun r45 => some (r45)) else if x1 = 1 then (Option.bind (fm_X21_write r22.2 r22.1) fun r49 => Option.bind (fm_X21_done 0 r49) fun r53 => some (r53)) else if x1 = 2 then (Option.bind (fm_X21_take_2  r22.1) fun r57 => Option.bind (fm_X21_write r57.1 r57.2) fun r61 => Option.bind (fm_X21_write r22.2 r61) fun r65 => Option.bind (fm_X21_done 0 r65) fun r69 => some (r69)) else if x1 = 3 then (if (gI r22.1 23 83) = 0 then (Option.bind (fm_X21_stop 6 r22.1) fun r83 => some (r83)) else (Option.bind (fm_X21_nextInput n r22.1) fun r75 => Option.bind (fm_X21_done r75.1 r75.2) fun r79 => some (r79))) else if x1 = 4 then (hl (α := Int32) ((if (gI r22.1 23 83) ≤ 0 then 0 else 1)) fun v89 => Option.bind (fm_X21_done v89 r22.1) fun r90 => some (r90)) else if x1 = 5 then (Option.bind (fm_X21_take_2  r22.1) fun r97 => Option.bind (fm_X21_done ((-1)) r97.2) fun r101 => some (r101)) else if x1 = 6 then (Option.bind (fm_X21_done ((-1)) r22.1) fun r105 => some (r105)) else if x1 = 7 then (hl (α := Int32) ((if x1 = 7 then 1 else 0)) fun v111 => Option.bind (fm_X21_moveBlock n v111 r22.2 r8.2.2 r8.2.1 r22.1) fun r112 => some (r112)) else if x1 = 8 then (hl (α := Int32) ((if x1 = 7 then 1 else 0)) fun v121 => Option.bind (fm_X21_moveBlock n v121 r22.2 r8.2.2 r8.2.1 r22.1) fun r122 => some (r122)) else (hl (pI r22.1 23 78 r22.2) fun σ40 => Option.bind (fm_X21_stop 1 σ40) fun r41 => some (r41))) fun r36 => some r36) else (Option.bind (fm_X21_takesWork  σ) fun r143 => if r143.1 = 0 then (some r143.2) else (hl (α := Int32) ((if x1 = 0 then 1 else (if x1 = 7 then 1 else (if x1 = 8 then 1 else 0)))) fun v151 => Option.bind (α := hc_St × Int32 × Int32) (if v151 = 0 then (some (r143.2, 0, 0)) else (Option.bind (fm_X21_take_2  r143.2) fun r158 => Option.bind (fm_X21_take_2  r158.2) fun r162 => some (r162.2, r158.1, r162.1))) fun r154 => Option.bind (α := hc_St × Int32) (if v151 = 0 then (Option.bind (fm_X21_take_2  r154.1) fun r172 => some (r172.2, r172.1)) else (if x1 = 0 then (some (r154.1, 0)) else (Option.bind (fm_X21_take_2  r154.1) fun r178 => some (r178.2, r178.1)))) fun r168 => Option.bind (α := hc_St) (if x1 = 0 then (Option.bind (fm_X21_done r154.2.1 r168.1) fun r191 => some (r191)) else if x1 = 1 then (Option.bind (fm_X21_write r168.2 r168.1) fun r195 => Option.bind (fm_X21_done 0 r195) fun r199 => some (r199)) else if x1 = 2 then (Option.bind (fm_X21_take_2  r168.1) fun r203 => Option.bind (fm_X21_write r203.1 r203.2) fun r207 => Option.bind (fm_X21_write r168.2 r207) fun r211 => Option.bind (fm_X21_done 0 r211) fun r215 => some (r215)) else if x1 = 3 then (if (gI r168.1 23 83) = 0 then (Option.bind (fm_X21_stop 6 r168.1) fun r229 => some (r229)) else (Option.bind (fm_X21_nextInput n r168.1) fun r221 => Option.bind (fm_X21_done r221.1 r221.2) fun r225 => some (r225))) else if x1 = 4 then (hl (α := Int32) ((if (gI r168.1 23 83) ≤ 0 then 0 else 1)) fun v235 => Option.bind (fm_X21_done v235 r168.1) fun r236 => some (r236)) else if x1 = 5 then (Option.bind (fm_X21_take_2  r168.1) fun r243 => Option.bind (fm_X21_done ((-1)) r243.2) fun r247 => some (r247)) else if x1 = 6 then (Option.bind (fm_X21_done ((-1)) r168.1) fun r251 => some (r251)) else if x1 = 7 then (hl (α := Int32) ((if x1 = 7 then 1 else 0)) fun v257 => Option.bind (fm_X21_moveBlock n v257 r168.2 r154.2.2 r154.2.1 r168.1) fun r258 => some (r258)) else if x1 = 8 then (hl (α := Int32) ((if x1 = 7 then 1 else 0)) fun v267 => Option.bind (fm_X21_moveBlock n v267 r168.2 r154.2.2 r154.2.1 r168.1) fun r268 => some (r268)) else (hl (pI r168.1 23 78 r168.2) fun σ186 => Option.bind (fm_X21_stop 1 σ186) fun r187 => some (r187))) fun r182 => some r182))
set_option maxRecDepth 20000 in
set_option maxHeartbeats 4000000 in
theorem okX21_doOwn (l : Launch) (E : hc_E) (A : Nat → Prop) (d : Nat) (n : Nat) (hD : 4 ≤ d) {x1 : Int32} {σ : hc_St} {r : hc_St} (h : fm_X21_doOwn n x1 σ = some r) (am : Nat → Nat → Nat) : hc_M l hc_V0 yX21_doOwn (ws_ yX21_doOwn cX21_doOwn 7 none) d E A [.ref (E.2.1 23), .int x1] am [] σ (.inl none) r := by
  have hd1 : 1 ≤ d := by omega
  refine hc_enter2 (own := RX21) [(0, .ref (E.2.1 23)), (1, .int x1)] pl_X21 rfl hc_V0_st hc_G0_nd rfl (Nat.le_of_ble_eq_true rfl) (fun X hC hem => ?_)
  unfold fm_X21_doOwn at h
  refine hr_iload_n hC dX21_doOwn_0 rfl ?_
  refine hr_if_le (x := _) hC 12 dX21_doOwn_1 (by decide) (fun c2 => ?_) (fun c2 => ?_)
  · rw [if_pos c2] at h
    refine hr_iconst (v := 0) hC dX21_doOwn_12 rfl ?_
    refine hr_istore_n hC dX21_doOwn_13 (by decide) ?_
    refine hr_iconst (v := 0) hC dX21_doOwn_14 rfl ?_
    refine hr_istore_n hC dX21_doOwn_15 (by decide) ?_
    refine hr_iload_n hC dX21_doOwn_16 rfl ?_
    obtain ⟨v5, hv5, h⟩ := hl_ok h
    have J138 : ∀ w139 : Int32, (if x1 = 0 then 1 else (if x1 = 7 then 1 else (if x1 = 8 then 1 else 0))) = w139 → hc_At hc_V0 E 7 X 37 [(0, .ref (E.2.1 23)), (1, .int x1), (2, .int 0), (3, .int 0)] [.int w139] σ am [] := by
      intro w139 hw139
      obtain rfl := hv5.trans hw139
      refine hr_istore hC dX21_doOwn_37 (by decide) ?_
      refine hr_iload hC dX21_doOwn_39 rfl ?_
      obtain ⟨r8, e9, h⟩ := hx_bind h
      have J10 : hc_At hc_V0 E 7 X 54 [(0, .ref (E.2.1 23)), (1, .int x1), (2, .int r8.2.1), (3, .int r8.2.2), (4, .int v5)] [] r8.1 am [] := by
        refine hr_iload hC dX21_doOwn_54 rfl ?_
        obtain ⟨r22, e23, h⟩ := hx_bind h
        have J24 : hc_At hc_V0 E 7 X 71 [(0, .ref (E.2.1 23)), (1, .int x1), (2, .int r8.2.1), (3, .int r8.2.2)] [.int r22.2] r22.1 am [] := by
          refine hr_istore hC dX21_doOwn_71 (by decide) ?_
          refine hr_iload_n hC dX21_doOwn_73 rfl ?_
          obtain ⟨r36, e37, h⟩ := hx_bind h
          have J38 : hc_At hc_V0 E 7 X 272 [] [] r36 am [] := by
            obtain rfl := Option.some.inj h
            exact hr_vret hC dX21_doOwn_272
          clear h
          have h := e37
          by_cases c129 : x1 = 0
          · rw [if_pos c129] at h
            refine hr_tableIn hC 124 dX21_doOwn_74 (by rw [c129] <;> decide) (by rw [c129] <;> decide) (by rw [c129] <;> rfl) (by decide) ?_
            refine hr_aload_n hC dX21_doOwn_124 rfl ?_
            refine hr_iload_n hC dX21_doOwn_125 rfl ?_
            obtain ⟨r45, e46, h⟩ := hx_bind h
            refine hs_callV0 hC 23 [_] _ dX21_doOwn_126 q3651 q3653 qs297 q335 q3654 np_X21 rfl OB_23 pd_X21_done (Nat.le_of_ble_eq_true rfl) hd1 (okX21_done l E A (d - 1)  (by omega)  e46 am) rfl ?_
            refine hr_goto hC 272 dX21_doOwn_129 (by decide) ?_
            obtain rfl := Option.some.inj h
            exact hr_sub _ rfl (J38)
          rw [if_neg c129] at h
          by_cases c130 : x1 = 1
          · rw [if_pos c130] at h
            refine hr_tableIn hC 132 dX21_doOwn_74 (by rw [c130] <;> decide) (by rw [c130] <;> decide) (by rw [c130] <;> rfl) (by decide) ?_
            refine hr_aload_n hC dX21_doOwn_132 rfl ?_
            refine hr_iload hC dX21_doOwn_133 rfl ?_
            obtain ⟨r49, e50, h⟩ := hx_bind h
            refine hs_callV0 hC 23 [_] _ dX21_doOwn_135 q3675 q3677 qs303 q335 q3678 np_X21 rfl OB_23 pd_X21_write (Nat.le_of_ble_eq_true rfl) hd1 (okX21_write l E A (d - 1)  (by omega)  e50 am) rfl ?_
            refine hr_aload_n hC dX21_doOwn_138 rfl ?_
            refine hr_iconst (v := 0) hC dX21_doOwn_139 rfl ?_
            obtain ⟨r53, e54, h⟩ := hx_bind h
            refine hs_callV0 hC 23 [_] _ dX21_doOwn_140 q3651 q3653 qs297 q335 q3654 np_X21 rfl OB_23 pd_X21_done (Nat.le_of_ble_eq_true rfl) hd1 (okX21_done l E A (d - 1)  (by omega)  e54 am) rfl ?_
            refine hr_goto hC 272 dX21_doOwn_143 (by decide) ?_
            obtain rfl := Option.some.inj h
            exact hr_sub _ rfl (J38)
          rw [if_neg c130] at h
          by_cases c131 : x1 = 2
          · rw [if_pos c131] at h
            refine hr_tableIn hC 146 dX21_doOwn_74 (by rw [c131] <;> decide) (by rw [c131] <;> decide) (by rw [c131] <;> rfl) (by decide) ?_
            refine hr_aload_n hC dX21_doOwn_146 rfl ?_
            obtain ⟨r57, e58, h⟩ := hx_bind h
            refine hs_callV0 hC 23 [] _ dX21_doOwn_147 q3615 q3617 qs288 q335 q3618 np_X21 rfl OB_23 pd_X21_take_2 (Nat.le_of_ble_eq_true rfl) hd1 (okX21_take_2 l E A (d - 1)  (by omega)  e58 am) rfl ?_
            refine hr_istore hC dX21_doOwn_150 (by decide) ?_
            refine hr_aload_n hC dX21_doOwn_152 rfl ?_
            refine hr_iload hC dX21_doOwn_153 rfl ?_
            obtain ⟨r61, e62, h⟩ := hx_bind h
            refine hs_callV0 hC 23 [_] _ dX21_doOwn_155 q3675 q3677 qs303 q335 q3678 np_X21 rfl OB_23 pd_X21_write (Nat.le_of_ble_eq_true rfl) hd1 (okX21_write l E A (d - 1)  (by omega)  e62 am) rfl ?_
            refine hr_aload_n hC dX21_doOwn_158 rfl ?_
            refine hr_iload hC dX21_doOwn_159 rfl ?_
            obtain ⟨r65, e66, h⟩ := hx_bind h
            refine hs_callV0 hC 23 [_] _ dX21_doOwn_161 q3675 q3677 qs303 q335 q3678 np_X21 rfl OB_23 pd_X21_write (Nat.le_of_ble_eq_true rfl) hd1 (okX21_write l E A (d - 1)  (by omega)  e66 am) rfl ?_
            refine hr_aload_n hC dX21_doOwn_164 rfl ?_
            refine hr_iconst (v := 0) hC dX21_doOwn_165 rfl ?_
            obtain ⟨r69, e70, h⟩ := hx_bind h
            refine hs_callV0 hC 23 [_] _ dX21_doOwn_166 q3651 q3653 qs297 q335 q3654 np_X21 rfl OB_23 pd_X21_done (Nat.le_of_ble_eq_true rfl) hd1 (okX21_done l E A (d - 1)  (by omega)  e70 am) rfl ?_
            refine hr_goto hC 272 dX21_doOwn_169 (by decide) ?_
            obtain rfl := Option.some.inj h
            exact hr_sub _ rfl (J38)
          rw [if_neg c131] at h
          by_cases c132 : x1 = 3
          · rw [if_pos c132] at h
            refine hr_tableIn hC 172 dX21_doOwn_74 (by rw [c132] <;> decide) (by rw [c132] <;> decide) (by rw [c132] <;> rfl) (by decide) ?_
            refine hr_aload_n hC dX21_doOwn_172 rfl ?_
            refine hr_gI hC F23_83 dX21_doOwn_173 q2924 ?_
            refine hr_if_ne (x := _) hC 188 dX21_doOwn_176 (by decide) (fun c74 => ?_) (fun c74 => ?_)
            · rw [if_neg c74] at h
              refine hr_aload_n hC dX21_doOwn_188 rfl ?_
              refine hr_aload_n hC dX21_doOwn_189 rfl ?_
              obtain ⟨r75, e76, h⟩ := hx_bind h
              refine hs_callV0 hC 23 [] _ dX21_doOwn_190 q3679 q3681 qs304 q335 q3682 np_X21 rfl OB_23 pd_X21_nextInput (Nat.le_of_ble_eq_true rfl) hd1 (okX21_nextInput l E A (d - 1) n (by omega)  e76 am) rfl ?_
              obtain ⟨r79, e80, h⟩ := hx_bind h
              refine hs_callV0 hC 23 [_] _ dX21_doOwn_193 q3651 q3653 qs297 q335 q3654 np_X21 rfl OB_23 pd_X21_done (Nat.le_of_ble_eq_true rfl) hd1 (okX21_done l E A (d - 1)  (by omega)  e80 am) rfl ?_
              refine hr_goto hC 272 dX21_doOwn_196 (by decide) ?_
              obtain rfl := Option.some.inj h
              exact hr_sub _ rfl (J38)
            · rw [if_pos c74] at h
              refine hr_aload_n hC dX21_doOwn_179 rfl ?_
              refine hr_bipush (v := 6) hC dX21_doOwn_180 rfl ?_
              obtain ⟨r83, e84, h⟩ := hx_bind h
              refine hs_callV0 hC 23 [_] _ dX21_doOwn_182 q3587 q3589 qs281 q335 q3590 np_X21 rfl OB_23 pd_X21_stop (Nat.le_of_ble_eq_true rfl) hd1 (okX21_stop l E A (d - 1)  (by omega)  e84 am) rfl ?_
              refine hr_goto hC 272 dX21_doOwn_185 (by decide) ?_
              obtain rfl := Option.some.inj h
              exact hr_sub _ rfl (J38)
          rw [if_neg c132] at h
          by_cases c133 : x1 = 4
          · rw [if_pos c133] at h
            refine hr_tableIn hC 199 dX21_doOwn_74 (by rw [c133] <;> decide) (by rw [c133] <;> decide) (by rw [c133] <;> rfl) (by decide) ?_
            refine hr_aload_n hC dX21_doOwn_199 rfl ?_
            refine hr_aload_n hC dX21_doOwn_200 rfl ?_
            refine hr_gI hC F23_83 dX21_doOwn_201 q2924 ?_
            obtain ⟨v89, hv89, h⟩ := hl_ok h
            have J94 : ∀ w95 : Int32, (if (gI r22.1 23 83) ≤ 0 then 0 else 1) = w95 → hc_At hc_V0 E 7 X 212 [] [.int w95, .ref (E.2.1 23)] r22.1 am [] := by
              intro w95 hw95
              obtain rfl := hv89.trans hw95
              obtain ⟨r90, e91, h⟩ := hx_bind h
              refine hs_callV0 hC 23 [_] _ dX21_doOwn_212 q3651 q3653 qs297 q335 q3654 np_X21 rfl OB_23 pd_X21_done (Nat.le_of_ble_eq_true rfl) hd1 (okX21_done l E A (d - 1)  (by omega)  e91 am) rfl ?_
              refine hr_goto hC 272 dX21_doOwn_215 (by decide) ?_
              obtain rfl := Option.some.inj h
              exact hr_sub _ rfl (J38)
            refine hr_if_le (x := _) hC 211 dX21_doOwn_204 (by decide) (fun c96 => ?_) (fun c96 => ?_)
            · refine hr_iconst (v := 0) hC dX21_doOwn_211 rfl ?_
              exact hr_sub _ rfl (J94 _ (by first | (rw [if_pos c96]; done) | (simp only [if_pos c96]; done) | rfl))
            · refine hr_iconst (v := 1) hC dX21_doOwn_207 rfl ?_
              refine hr_goto hC 212 dX21_doOwn_208 (by decide) ?_
              exact hr_sub _ rfl (J94 _ (by first | (rw [if_neg c96]; done) | (simp only [if_neg c96]; done) | rfl))
          rw [if_neg c133] at h
          by_cases c134 : x1 = 5
          · rw [if_pos c134] at h
            refine hr_tableIn hC 218 dX21_doOwn_74 (by rw [c134] <;> decide) (by rw [c134] <;> decide) (by rw [c134] <;> rfl) (by decide) ?_
            refine hr_aload_n hC dX21_doOwn_218 rfl ?_
            obtain ⟨r97, e98, h⟩ := hx_bind h
            refine hs_callV0 hC 23 [] _ dX21_doOwn_219 q3615 q3617 qs288 q335 q3618 np_X21 rfl OB_23 pd_X21_take_2 (Nat.le_of_ble_eq_true rfl) hd1 (okX21_take_2 l E A (d - 1)  (by omega)  e98 am) rfl ?_
            refine hr_pop hC dX21_doOwn_222 rfl ?_
            refine hr_aload_n hC dX21_doOwn_223 rfl ?_
            refine hr_iconst (v := (-1)) hC dX21_doOwn_224 rfl ?_
            obtain ⟨r101, e102, h⟩ := hx_bind h
            refine hs_callV0 hC 23 [_] _ dX21_doOwn_225 q3651 q3653 qs297 q335 q3654 np_X21 rfl OB_23 pd_X21_done (Nat.le_of_ble_eq_true rfl) hd1 (okX21_done l E A (d - 1)  (by omega)  e102 am) rfl ?_
            refine hr_goto hC 272 dX21_doOwn_228 (by decide) ?_
            obtain rfl := Option.some.inj h
            exact hr_sub _ rfl (J38)
          rw [if_neg c134] at h
          by_cases c135 : x1 = 6
          · rw [if_pos c135] at h
            refine hr_tableIn hC 231 dX21_doOwn_74 (by rw [c135] <;> decide) (by rw [c135] <;> decide) (by rw [c135] <;> rfl) (by decide) ?_
            refine hr_aload_n hC dX21_doOwn_231 rfl ?_
            refine hr_iconst (v := (-1)) hC dX21_doOwn_232 rfl ?_
            obtain ⟨r105, e106, h⟩ := hx_bind h
            refine hs_callV0 hC 23 [_] _ dX21_doOwn_233 q3651 q3653 qs297 q335 q3654 np_X21 rfl OB_23 pd_X21_done (Nat.le_of_ble_eq_true rfl) hd1 (okX21_done l E A (d - 1)  (by omega)  e106 am) rfl ?_
            refine hr_goto hC 272 dX21_doOwn_236 (by decide) ?_
            obtain rfl := Option.some.inj h
            exact hr_sub _ rfl (J38)
          rw [if_neg c135] at h
          by_cases c136 : x1 = 7
          · rw [if_pos c136] at h
            refine hr_tableIn hC 239 dX21_doOwn_74 (by rw [c136] <;> decide) (by rw [c136] <;> decide) (by rw [c136] <;> rfl) (by decide) ?_
            refine hr_aload_n hC dX21_doOwn_239 rfl ?_
            refine hr_iload_n hC dX21_doOwn_240 rfl ?_
            refine hr_bipush (v := 7) hC dX21_doOwn_241 rfl ?_
            obtain ⟨v111, hv111, h⟩ := hl_ok h
            have J116 : ∀ w117 : Int32, (if x1 = 7 then 1 else 0) = w117 → hc_At hc_V0 E 7 X 251 [(2, .int r8.2.1), (3, .int r8.2.2), (5, .int r22.2)] [.int w117, .ref (E.2.1 23)] r22.1 am [] := by
              intro w117 hw117
              obtain rfl := hv111.trans hw117
              refine hr_iload hC dX21_doOwn_251 rfl ?_
              refine hr_iload_n hC dX21_doOwn_253 rfl ?_
              refine hr_iload_n hC dX21_doOwn_254 rfl ?_
              obtain ⟨r112, e113, h⟩ := hx_bind h
              refine hs_callV0 hC 23 [_, _, _, _] _ dX21_doOwn_255 q3683 q3685 qs305 q335 q3686 np_X21 rfl OB_23 pd_X21_moveBlock (Nat.le_of_ble_eq_true rfl) hd1 (okX21_moveBlock l E A (d - 1) n (by omega)  e113 am) rfl ?_
              refine hr_goto hC 272 dX21_doOwn_258 (by decide) ?_
              obtain rfl := Option.some.inj h
              exact hr_sub _ rfl (J38)
            refine hr_icmp_ne (x := _) hC 250 dX21_doOwn_243 (by decide) (fun c118 => ?_) (fun c118 => ?_)
            · refine hr_iconst (v := 0) hC dX21_doOwn_250 rfl ?_
              exact hr_sub _ rfl (J116 _ (by first | (rw [if_neg c118]; done) | (simp only [if_neg c118]; done) | rfl))
            · refine hr_iconst (v := 1) hC dX21_doOwn_246 rfl ?_
              refine hr_goto hC 251 dX21_doOwn_247 (by decide) ?_
              exact hr_sub _ rfl (J116 _ (by first | (rw [if_pos c118]; done) | (simp only [if_pos c118]; done) | rfl))
          rw [if_neg c136] at h
          by_cases c137 : x1 = 8
          · rw [if_pos c137] at h
            refine hr_tableIn hC 239 dX21_doOwn_74 (by rw [c137] <;> decide) (by rw [c137] <;> decide) (by rw [c137] <;> rfl) (by decide) ?_
            refine hr_aload_n hC dX21_doOwn_239 rfl ?_
            refine hr_iload_n hC dX21_doOwn_240 rfl ?_
            refine hr_bipush (v := 7) hC dX21_doOwn_241 rfl ?_
            obtain ⟨v121, hv121, h⟩ := hl_ok h
            have J126 : ∀ w127 : Int32, (if x1 = 7 then 1 else 0) = w127 → hc_At hc_V0 E 7 X 251 [(2, .int r8.2.1), (3, .int r8.2.2), (5, .int r22.2)] [.int w127, .ref (E.2.1 23)] r22.1 am [] := by
              intro w127 hw127
              obtain rfl := hv121.trans hw127
              refine hr_iload hC dX21_doOwn_251 rfl ?_
              refine hr_iload_n hC dX21_doOwn_253 rfl ?_
              refine hr_iload_n hC dX21_doOwn_254 rfl ?_
              obtain ⟨r122, e123, h⟩ := hx_bind h
              refine hs_callV0 hC 23 [_, _, _, _] _ dX21_doOwn_255 q3683 q3685 qs305 q335 q3686 np_X21 rfl OB_23 pd_X21_moveBlock (Nat.le_of_ble_eq_true rfl) hd1 (okX21_moveBlock l E A (d - 1) n (by omega)  e123 am) rfl ?_
              refine hr_goto hC 272 dX21_doOwn_258 (by decide) ?_
              obtain rfl := Option.some.inj h
              exact hr_sub _ rfl (J38)
            refine hr_icmp_ne (x := _) hC 250 dX21_doOwn_243 (by decide) (fun c128 => ?_) (fun c128 => ?_)
            · refine hr_iconst (v := 0) hC dX21_doOwn_250 rfl ?_
              exact hr_sub _ rfl (J126 _ (by first | (rw [if_neg c128]; done) | (simp only [if_neg c128]; done) | rfl))
            · refine hr_iconst (v := 1) hC dX21_doOwn_246 rfl ?_
              refine hr_goto hC 251 dX21_doOwn_247 (by decide) ?_
              exact hr_sub _ rfl (J126 _ (by first | (rw [if_pos c128]; done) | (simp only [if_pos c128]; done) | rfl))
          rw [if_neg c137] at h
          refine hr_tableD hC 261 dX21_doOwn_74 (ks := [0, 1, 2, 3, 4, 5, 6, 7, 8]) (hc_l1 (hc_ne c129 rfl) (hc_l1 (hc_ne c130 rfl) (hc_l1 (hc_ne c131 rfl) (hc_l1 (hc_ne c132 rfl) (hc_l1 (hc_ne c133 rfl) (hc_l1 (hc_ne c134 rfl) (hc_l1 (hc_ne c135 rfl) (hc_l1 (hc_ne c136 rfl) (hc_l1 (hc_ne c137 rfl) hc_l0))))))))) (by decide) (by decide) (by decide) ?_
          refine hr_aload_n hC dX21_doOwn_261 rfl ?_
          refine hr_iload hC dX21_doOwn_262 rfl ?_
          obtain ⟨σ40, hσ40, h⟩ := hl_ok h
          refine hr_pI hC F23_78 PX21_78 dX21_doOwn_264 q2919 ?_
          rw [← hσ40]
          refine hr_aload_n hC dX21_doOwn_267 rfl ?_
          refine hr_iconst (v := 1) hC dX21_doOwn_268 rfl ?_
          obtain ⟨r41, e42, h⟩ := hx_bind h
          refine hs_callV0 hC 23 [_] _ dX21_doOwn_269 q3587 q3589 qs281 q335 q3590 np_X21 rfl OB_23 pd_X21_stop (Nat.le_of_ble_eq_true rfl) hd1 (okX21_stop l E A (d - 1)  (by omega)  e42 am) rfl ?_
          obtain rfl := Option.some.inj h
          exact hr_sub _ rfl (J38)
        clear h
        have h := e23
        refine hr_if_eq (x := _) hC 67 dX21_doOwn_56 (by decide) (fun c21 => ?_) (fun c21 => ?_)
        · rw [if_pos c21] at h
          refine hr_aload_n hC dX21_doOwn_67 rfl ?_
          obtain ⟨r26, e27, h⟩ := hx_bind h
          refine hs_callV0 hC 23 [] _ dX21_doOwn_68 q3615 q3617 qs288 q335 q3618 np_X21 rfl OB_23 pd_X21_take_2 (Nat.le_of_ble_eq_true rfl) hd1 (okX21_take_2 l E A (d - 1)  (by omega)  e27 am) rfl ?_
          obtain rfl := Option.some.inj h
          exact hr_sub _ rfl (J24)
        · rw [if_neg c21] at h
          refine hr_iload_n hC dX21_doOwn_59 rfl ?_
          refine hr_if_ne (x := _) hC 67 dX21_doOwn_60 (by decide) (fun c31 => ?_) (fun c31 => ?_)
          · rw [if_neg c31] at h
            refine hr_aload_n hC dX21_doOwn_67 rfl ?_
            obtain ⟨r32, e33, h⟩ := hx_bind h
            refine hs_callV0 hC 23 [] _ dX21_doOwn_68 q3615 q3617 qs288 q335 q3618 np_X21 rfl OB_23 pd_X21_take_2 (Nat.le_of_ble_eq_true rfl) hd1 (okX21_take_2 l E A (d - 1)  (by omega)  e33 am) rfl ?_
            obtain rfl := Option.some.inj h
            exact hr_sub _ rfl (J24)
          · rw [if_pos c31] at h
            refine hr_iconst (v := 0) hC dX21_doOwn_63 rfl ?_
            refine hr_goto hC 71 dX21_doOwn_64 (by decide) ?_
            obtain rfl := Option.some.inj h
            exact hr_sub _ rfl (J24)
      clear h
      have h := e9
      refine hr_if_eq (x := _) hC 54 dX21_doOwn_41 (by decide) (fun c7 => ?_) (fun c7 => ?_)
      · rw [if_pos c7] at h
        obtain rfl := Option.some.inj h
        exact hr_sub _ rfl (J10)
      · rw [if_neg c7] at h
        refine hr_aload_n hC dX21_doOwn_44 rfl ?_
        obtain ⟨r12, e13, h⟩ := hx_bind h
        refine hs_callV0 hC 23 [] _ dX21_doOwn_45 q3615 q3617 qs288 q335 q3618 np_X21 rfl OB_23 pd_X21_take_2 (Nat.le_of_ble_eq_true rfl) hd1 (okX21_take_2 l E A (d - 1)  (by omega)  e13 am) rfl ?_
        refine hr_istore_n hC dX21_doOwn_48 (by decide) ?_
        refine hr_aload_n hC dX21_doOwn_49 rfl ?_
        obtain ⟨r16, e17, h⟩ := hx_bind h
        refine hs_callV0 hC 23 [] _ dX21_doOwn_50 q3615 q3617 qs288 q335 q3618 np_X21 rfl OB_23 pd_X21_take_2 (Nat.le_of_ble_eq_true rfl) hd1 (okX21_take_2 l E A (d - 1)  (by omega)  e17 am) rfl ?_
        refine hr_istore_n hC dX21_doOwn_53 (by decide) ?_
        obtain rfl := Option.some.inj h
        exact hr_sub _ rfl (J10)
    refine hr_if_eq (x := _) hC 32 dX21_doOwn_17 (by decide) (fun c140 => ?_) (fun c140 => ?_)
    · refine hr_iconst (v := 1) hC dX21_doOwn_32 rfl ?_
      refine hr_goto hC 37 dX21_doOwn_33 (by decide) ?_
      exact hr_sub _ rfl (J138 _ (by first | (rw [if_pos c140]; done) | (simp only [if_pos c140]; done) | rfl))
    · refine hr_iload_n hC dX21_doOwn_20 rfl ?_
      refine hr_bipush (v := 7) hC dX21_doOwn_21 rfl ?_
      refine hr_icmp_eq (x := _) hC 32 dX21_doOwn_23 (by decide) (fun c141 => ?_) (fun c141 => ?_)
      · refine hr_iconst (v := 1) hC dX21_doOwn_32 rfl ?_
        refine hr_goto hC 37 dX21_doOwn_33 (by decide) ?_
        exact hr_sub _ rfl (J138 _ (by first | (rw [if_neg c140, if_pos c141]; done) | (simp only [if_neg c140, if_pos c141]; done) | rfl))
      · refine hr_iload_n hC dX21_doOwn_26 rfl ?_
        refine hr_bipush (v := 8) hC dX21_doOwn_27 rfl ?_
        refine hr_icmp_ne (x := _) hC 36 dX21_doOwn_29 (by decide) (fun c142 => ?_) (fun c142 => ?_)
        · refine hr_iconst (v := 0) hC dX21_doOwn_36 rfl ?_
          exact hr_sub _ rfl (J138 _ (by first | (rw [if_neg c140, if_neg c141, if_neg c142]; done) | (simp only [if_neg c140, if_neg c141, if_neg c142]; done) | rfl))
        · refine hr_iconst (v := 1) hC dX21_doOwn_32 rfl ?_
          refine hr_goto hC 37 dX21_doOwn_33 (by decide) ?_
          exact hr_sub _ rfl (J138 _ (by first | (rw [if_neg c140, if_neg c141, if_pos c142]; done) | (simp only [if_neg c140, if_neg c141, if_pos c142]; done) | rfl))
  · rw [if_neg c2] at h
    refine hr_aload_n hC dX21_doOwn_4 rfl ?_
    obtain ⟨r143, e144, h⟩ := hx_bind h
    refine hs_callV0 hC 23 [] _ dX21_doOwn_5 q3583 q3585 qs280 q335 q3586 np_X21 rfl OB_23 pd_X21_takesWork (Nat.le_of_ble_eq_true rfl) hd1 (okX21_takesWork l E A (d - 1)  (by omega)  e144 am) rfl ?_
    refine hr_if_ne (x := _) hC 12 dX21_doOwn_8 (by decide) (fun c148 => ?_) (fun c148 => ?_)
    · rw [if_neg c148] at h
      refine hr_iconst (v := 0) hC dX21_doOwn_12 rfl ?_
      refine hr_istore_n hC dX21_doOwn_13 (by decide) ?_
      refine hr_iconst (v := 0) hC dX21_doOwn_14 rfl ?_
      refine hr_istore_n hC dX21_doOwn_15 (by decide) ?_
      refine hr_iload_n hC dX21_doOwn_16 rfl ?_
      obtain ⟨v151, hv151, h⟩ := hl_ok h
      have J284 : ∀ w285 : Int32, (if x1 = 0 then 1 else (if x1 = 7 then 1 else (if x1 = 8 then 1 else 0))) = w285 → hc_At hc_V0 E 7 X 37 [(0, .ref (E.2.1 23)), (1, .int x1), (2, .int 0), (3, .int 0)] [.int w285] r143.2 am [] := by
        intro w285 hw285
        obtain rfl := hv151.trans hw285
        refine hr_istore hC dX21_doOwn_37 (by decide) ?_
        refine hr_iload hC dX21_doOwn_39 rfl ?_
        obtain ⟨r154, e155, h⟩ := hx_bind h
        have J156 : hc_At hc_V0 E 7 X 54 [(0, .ref (E.2.1 23)), (1, .int x1), (2, .int r154.2.1), (3, .int r154.2.2), (4, .int v151)] [] r154.1 am [] := by
          refine hr_iload hC dX21_doOwn_54 rfl ?_
          obtain ⟨r168, e169, h⟩ := hx_bind h
          have J170 : hc_At hc_V0 E 7 X 71 [(0, .ref (E.2.1 23)), (1, .int x1), (2, .int r154.2.1), (3, .int r154.2.2)] [.int r168.2] r168.1 am [] := by
            refine hr_istore hC dX21_doOwn_71 (by decide) ?_
            refine hr_iload_n hC dX21_doOwn_73 rfl ?_
            obtain ⟨r182, e183, h⟩ := hx_bind h
            have J184 : hc_At hc_V0 E 7 X 272 [] [] r182 am [] := by
              obtain rfl := Option.some.inj h
              exact hr_vret hC dX21_doOwn_272
            clear h
            have h := e183
            by_cases c275 : x1 = 0
            · rw [if_pos c275] at h
              refine hr_tableIn hC 124 dX21_doOwn_74 (by rw [c275] <;> decide) (by rw [c275] <;> decide) (by rw [c275] <;> rfl) (by decide) ?_
              refine hr_aload_n hC dX21_doOwn_124 rfl ?_
              refine hr_iload_n hC dX21_doOwn_125 rfl ?_
              obtain ⟨r191, e192, h⟩ := hx_bind h
              refine hs_callV0 hC 23 [_] _ dX21_doOwn_126 q3651 q3653 qs297 q335 q3654 np_X21 rfl OB_23 pd_X21_done (Nat.le_of_ble_eq_true rfl) hd1 (okX21_done l E A (d - 1)  (by omega)  e192 am) rfl ?_
              refine hr_goto hC 272 dX21_doOwn_129 (by decide) ?_
              obtain rfl := Option.some.inj h
              exact hr_sub _ rfl (J184)
            rw [if_neg c275] at h
            by_cases c276 : x1 = 1
            · rw [if_pos c276] at h
              refine hr_tableIn hC 132 dX21_doOwn_74 (by rw [c276] <;> decide) (by rw [c276] <;> decide) (by rw [c276] <;> rfl) (by decide) ?_
              refine hr_aload_n hC dX21_doOwn_132 rfl ?_
              refine hr_iload hC dX21_doOwn_133 rfl ?_
              obtain ⟨r195, e196, h⟩ := hx_bind h
              refine hs_callV0 hC 23 [_] _ dX21_doOwn_135 q3675 q3677 qs303 q335 q3678 np_X21 rfl OB_23 pd_X21_write (Nat.le_of_ble_eq_true rfl) hd1 (okX21_write l E A (d - 1)  (by omega)  e196 am) rfl ?_
              refine hr_aload_n hC dX21_doOwn_138 rfl ?_
              refine hr_iconst (v := 0) hC dX21_doOwn_139 rfl ?_
              obtain ⟨r199, e200, h⟩ := hx_bind h
              refine hs_callV0 hC 23 [_] _ dX21_doOwn_140 q3651 q3653 qs297 q335 q3654 np_X21 rfl OB_23 pd_X21_done (Nat.le_of_ble_eq_true rfl) hd1 (okX21_done l E A (d - 1)  (by omega)  e200 am) rfl ?_
              refine hr_goto hC 272 dX21_doOwn_143 (by decide) ?_
              obtain rfl := Option.some.inj h
              exact hr_sub _ rfl (J184)
            rw [if_neg c276] at h
            by_cases c277 : x1 = 2
            · rw [if_pos c277] at h
              refine hr_tableIn hC 146 dX21_doOwn_74 (by rw [c277] <;> decide) (by rw [c277] <;> decide) (by rw [c277] <;> rfl) (by decide) ?_
              refine hr_aload_n hC dX21_doOwn_146 rfl ?_
              obtain ⟨r203, e204, h⟩ := hx_bind h
              refine hs_callV0 hC 23 [] _ dX21_doOwn_147 q3615 q3617 qs288 q335 q3618 np_X21 rfl OB_23 pd_X21_take_2 (Nat.le_of_ble_eq_true rfl) hd1 (okX21_take_2 l E A (d - 1)  (by omega)  e204 am) rfl ?_
              refine hr_istore hC dX21_doOwn_150 (by decide) ?_
              refine hr_aload_n hC dX21_doOwn_152 rfl ?_
              refine hr_iload hC dX21_doOwn_153 rfl ?_
              obtain ⟨r207, e208, h⟩ := hx_bind h
              refine hs_callV0 hC 23 [_] _ dX21_doOwn_155 q3675 q3677 qs303 q335 q3678 np_X21 rfl OB_23 pd_X21_write (Nat.le_of_ble_eq_true rfl) hd1 (okX21_write l E A (d - 1)  (by omega)  e208 am) rfl ?_
              refine hr_aload_n hC dX21_doOwn_158 rfl ?_
              refine hr_iload hC dX21_doOwn_159 rfl ?_
              obtain ⟨r211, e212, h⟩ := hx_bind h
              refine hs_callV0 hC 23 [_] _ dX21_doOwn_161 q3675 q3677 qs303 q335 q3678 np_X21 rfl OB_23 pd_X21_write (Nat.le_of_ble_eq_true rfl) hd1 (okX21_write l E A (d - 1)  (by omega)  e212 am) rfl ?_
              refine hr_aload_n hC dX21_doOwn_164 rfl ?_
              refine hr_iconst (v := 0) hC dX21_doOwn_165 rfl ?_
              obtain ⟨r215, e216, h⟩ := hx_bind h
              refine hs_callV0 hC 23 [_] _ dX21_doOwn_166 q3651 q3653 qs297 q335 q3654 np_X21 rfl OB_23 pd_X21_done (Nat.le_of_ble_eq_true rfl) hd1 (okX21_done l E A (d - 1)  (by omega)  e216 am) rfl ?_
              refine hr_goto hC 272 dX21_doOwn_169 (by decide) ?_
              obtain rfl := Option.some.inj h
              exact hr_sub _ rfl (J184)
            rw [if_neg c277] at h
            by_cases c278 : x1 = 3
            · rw [if_pos c278] at h
              refine hr_tableIn hC 172 dX21_doOwn_74 (by rw [c278] <;> decide) (by rw [c278] <;> decide) (by rw [c278] <;> rfl) (by decide) ?_
              refine hr_aload_n hC dX21_doOwn_172 rfl ?_
              refine hr_gI hC F23_83 dX21_doOwn_173 q2924 ?_
              refine hr_if_ne (x := _) hC 188 dX21_doOwn_176 (by decide) (fun c220 => ?_) (fun c220 => ?_)
              · rw [if_neg c220] at h
                refine hr_aload_n hC dX21_doOwn_188 rfl ?_
                refine hr_aload_n hC dX21_doOwn_189 rfl ?_
                obtain ⟨r221, e222, h⟩ := hx_bind h
                refine hs_callV0 hC 23 [] _ dX21_doOwn_190 q3679 q3681 qs304 q335 q3682 np_X21 rfl OB_23 pd_X21_nextInput (Nat.le_of_ble_eq_true rfl) hd1 (okX21_nextInput l E A (d - 1) n (by omega)  e222 am) rfl ?_
                obtain ⟨r225, e226, h⟩ := hx_bind h
                refine hs_callV0 hC 23 [_] _ dX21_doOwn_193 q3651 q3653 qs297 q335 q3654 np_X21 rfl OB_23 pd_X21_done (Nat.le_of_ble_eq_true rfl) hd1 (okX21_done l E A (d - 1)  (by omega)  e226 am) rfl ?_
                refine hr_goto hC 272 dX21_doOwn_196 (by decide) ?_
                obtain rfl := Option.some.inj h
                exact hr_sub _ rfl (J184)
              · rw [if_pos c220] at h
                refine hr_aload_n hC dX21_doOwn_179 rfl ?_
                refine hr_bipush (v := 6) hC dX21_doOwn_180 rfl ?_
                obtain ⟨r229, e230, h⟩ := hx_bind h
                refine hs_callV0 hC 23 [_] _ dX21_doOwn_182 q3587 q3589 qs281 q335 q3590 np_X21 rfl OB_23 pd_X21_stop (Nat.le_of_ble_eq_true rfl) hd1 (okX21_stop l E A (d - 1)  (by omega)  e230 am) rfl ?_
                refine hr_goto hC 272 dX21_doOwn_185 (by decide) ?_
                obtain rfl := Option.some.inj h
                exact hr_sub _ rfl (J184)
            rw [if_neg c278] at h
            by_cases c279 : x1 = 4
            · rw [if_pos c279] at h
              refine hr_tableIn hC 199 dX21_doOwn_74 (by rw [c279] <;> decide) (by rw [c279] <;> decide) (by rw [c279] <;> rfl) (by decide) ?_
              refine hr_aload_n hC dX21_doOwn_199 rfl ?_
              refine hr_aload_n hC dX21_doOwn_200 rfl ?_
              refine hr_gI hC F23_83 dX21_doOwn_201 q2924 ?_
              obtain ⟨v235, hv235, h⟩ := hl_ok h
              have J240 : ∀ w241 : Int32, (if (gI r168.1 23 83) ≤ 0 then 0 else 1) = w241 → hc_At hc_V0 E 7 X 212 [] [.int w241, .ref (E.2.1 23)] r168.1 am [] := by
                intro w241 hw241
                obtain rfl := hv235.trans hw241
                obtain ⟨r236, e237, h⟩ := hx_bind h
                refine hs_callV0 hC 23 [_] _ dX21_doOwn_212 q3651 q3653 qs297 q335 q3654 np_X21 rfl OB_23 pd_X21_done (Nat.le_of_ble_eq_true rfl) hd1 (okX21_done l E A (d - 1)  (by omega)  e237 am) rfl ?_
                refine hr_goto hC 272 dX21_doOwn_215 (by decide) ?_
                obtain rfl := Option.some.inj h
                exact hr_sub _ rfl (J184)
              refine hr_if_le (x := _) hC 211 dX21_doOwn_204 (by decide) (fun c242 => ?_) (fun c242 => ?_)
              · refine hr_iconst (v := 0) hC dX21_doOwn_211 rfl ?_
                exact hr_sub _ rfl (J240 _ (by first | (rw [if_pos c242]; done) | (simp only [if_pos c242]; done) | rfl))
              · refine hr_iconst (v := 1) hC dX21_doOwn_207 rfl ?_
                refine hr_goto hC 212 dX21_doOwn_208 (by decide) ?_
                exact hr_sub _ rfl (J240 _ (by first | (rw [if_neg c242]; done) | (simp only [if_neg c242]; done) | rfl))
            rw [if_neg c279] at h
            by_cases c280 : x1 = 5
            · rw [if_pos c280] at h
              refine hr_tableIn hC 218 dX21_doOwn_74 (by rw [c280] <;> decide) (by rw [c280] <;> decide) (by rw [c280] <;> rfl) (by decide) ?_
              refine hr_aload_n hC dX21_doOwn_218 rfl ?_
              obtain ⟨r243, e244, h⟩ := hx_bind h
              refine hs_callV0 hC 23 [] _ dX21_doOwn_219 q3615 q3617 qs288 q335 q3618 np_X21 rfl OB_23 pd_X21_take_2 (Nat.le_of_ble_eq_true rfl) hd1 (okX21_take_2 l E A (d - 1)  (by omega)  e244 am) rfl ?_
              refine hr_pop hC dX21_doOwn_222 rfl ?_
              refine hr_aload_n hC dX21_doOwn_223 rfl ?_
              refine hr_iconst (v := (-1)) hC dX21_doOwn_224 rfl ?_
              obtain ⟨r247, e248, h⟩ := hx_bind h
              refine hs_callV0 hC 23 [_] _ dX21_doOwn_225 q3651 q3653 qs297 q335 q3654 np_X21 rfl OB_23 pd_X21_done (Nat.le_of_ble_eq_true rfl) hd1 (okX21_done l E A (d - 1)  (by omega)  e248 am) rfl ?_
              refine hr_goto hC 272 dX21_doOwn_228 (by decide) ?_
              obtain rfl := Option.some.inj h
              exact hr_sub _ rfl (J184)
            rw [if_neg c280] at h
            by_cases c281 : x1 = 6
            · rw [if_pos c281] at h
              refine hr_tableIn hC 231 dX21_doOwn_74 (by rw [c281] <;> decide) (by rw [c281] <;> decide) (by rw [c281] <;> rfl) (by decide) ?_
              refine hr_aload_n hC dX21_doOwn_231 rfl ?_
              refine hr_iconst (v := (-1)) hC dX21_doOwn_232 rfl ?_
              obtain ⟨r251, e252, h⟩ := hx_bind h
              refine hs_callV0 hC 23 [_] _ dX21_doOwn_233 q3651 q3653 qs297 q335 q3654 np_X21 rfl OB_23 pd_X21_done (Nat.le_of_ble_eq_true rfl) hd1 (okX21_done l E A (d - 1)  (by omega)  e252 am) rfl ?_
              refine hr_goto hC 272 dX21_doOwn_236 (by decide) ?_
              obtain rfl := Option.some.inj h
              exact hr_sub _ rfl (J184)
            rw [if_neg c281] at h
            by_cases c282 : x1 = 7
            · rw [if_pos c282] at h
              refine hr_tableIn hC 239 dX21_doOwn_74 (by rw [c282] <;> decide) (by rw [c282] <;> decide) (by rw [c282] <;> rfl) (by decide) ?_
              refine hr_aload_n hC dX21_doOwn_239 rfl ?_
              refine hr_iload_n hC dX21_doOwn_240 rfl ?_
              refine hr_bipush (v := 7) hC dX21_doOwn_241 rfl ?_
              obtain ⟨v257, hv257, h⟩ := hl_ok h
              have J262 : ∀ w263 : Int32, (if x1 = 7 then 1 else 0) = w263 → hc_At hc_V0 E 7 X 251 [(2, .int r154.2.1), (3, .int r154.2.2), (5, .int r168.2)] [.int w263, .ref (E.2.1 23)] r168.1 am [] := by
                intro w263 hw263
                obtain rfl := hv257.trans hw263
                refine hr_iload hC dX21_doOwn_251 rfl ?_
                refine hr_iload_n hC dX21_doOwn_253 rfl ?_
                refine hr_iload_n hC dX21_doOwn_254 rfl ?_
                obtain ⟨r258, e259, h⟩ := hx_bind h
                refine hs_callV0 hC 23 [_, _, _, _] _ dX21_doOwn_255 q3683 q3685 qs305 q335 q3686 np_X21 rfl OB_23 pd_X21_moveBlock (Nat.le_of_ble_eq_true rfl) hd1 (okX21_moveBlock l E A (d - 1) n (by omega)  e259 am) rfl ?_
                refine hr_goto hC 272 dX21_doOwn_258 (by decide) ?_
                obtain rfl := Option.some.inj h
                exact hr_sub _ rfl (J184)
              refine hr_icmp_ne (x := _) hC 250 dX21_doOwn_243 (by decide) (fun c264 => ?_) (fun c264 => ?_)
              · refine hr_iconst (v := 0) hC dX21_doOwn_250 rfl ?_
                exact hr_sub _ rfl (J262 _ (by first | (rw [if_neg c264]; done) | (simp only [if_neg c264]; done) | rfl))
              · refine hr_iconst (v := 1) hC dX21_doOwn_246 rfl ?_
                refine hr_goto hC 251 dX21_doOwn_247 (by decide) ?_
                exact hr_sub _ rfl (J262 _ (by first | (rw [if_pos c264]; done) | (simp only [if_pos c264]; done) | rfl))
            rw [if_neg c282] at h
            by_cases c283 : x1 = 8
            · rw [if_pos c283] at h
              refine hr_tableIn hC 239 dX21_doOwn_74 (by rw [c283] <;> decide) (by rw [c283] <;> decide) (by rw [c283] <;> rfl) (by decide) ?_
              refine hr_aload_n hC dX21_doOwn_239 rfl ?_
              refine hr_iload_n hC dX21_doOwn_240 rfl ?_
              refine hr_bipush (v := 7) hC dX21_doOwn_241 rfl ?_
              obtain ⟨v267, hv267, h⟩ := hl_ok h
              have J272 : ∀ w273 : Int32, (if x1 = 7 then 1 else 0) = w273 → hc_At hc_V0 E 7 X 251 [(2, .int r154.2.1), (3, .int r154.2.2), (5, .int r168.2)] [.int w273, .ref (E.2.1 23)] r168.1 am [] := by
                intro w273 hw273
                obtain rfl := hv267.trans hw273
                refine hr_iload hC dX21_doOwn_251 rfl ?_
                refine hr_iload_n hC dX21_doOwn_253 rfl ?_
                refine hr_iload_n hC dX21_doOwn_254 rfl ?_
                obtain ⟨r268, e269, h⟩ := hx_bind h
                refine hs_callV0 hC 23 [_, _, _, _] _ dX21_doOwn_255 q3683 q3685 qs305 q335 q3686 np_X21 rfl OB_23 pd_X21_moveBlock (Nat.le_of_ble_eq_true rfl) hd1 (okX21_moveBlock l E A (d - 1) n (by omega)  e269 am) rfl ?_
                refine hr_goto hC 272 dX21_doOwn_258 (by decide) ?_
                obtain rfl := Option.some.inj h
                exact hr_sub _ rfl (J184)
              refine hr_icmp_ne (x := _) hC 250 dX21_doOwn_243 (by decide) (fun c274 => ?_) (fun c274 => ?_)
              · refine hr_iconst (v := 0) hC dX21_doOwn_250 rfl ?_
                exact hr_sub _ rfl (J272 _ (by first | (rw [if_neg c274]; done) | (simp only [if_neg c274]; done) | rfl))
              · refine hr_iconst (v := 1) hC dX21_doOwn_246 rfl ?_
                refine hr_goto hC 251 dX21_doOwn_247 (by decide) ?_
                exact hr_sub _ rfl (J272 _ (by first | (rw [if_pos c274]; done) | (simp only [if_pos c274]; done) | rfl))
            rw [if_neg c283] at h
            refine hr_tableD hC 261 dX21_doOwn_74 (ks := [0, 1, 2, 3, 4, 5, 6, 7, 8]) (hc_l1 (hc_ne c275 rfl) (hc_l1 (hc_ne c276 rfl) (hc_l1 (hc_ne c277 rfl) (hc_l1 (hc_ne c278 rfl) (hc_l1 (hc_ne c279 rfl) (hc_l1 (hc_ne c280 rfl) (hc_l1 (hc_ne c281 rfl) (hc_l1 (hc_ne c282 rfl) (hc_l1 (hc_ne c283 rfl) hc_l0))))))))) (by decide) (by decide) (by decide) ?_
            refine hr_aload_n hC dX21_doOwn_261 rfl ?_
            refine hr_iload hC dX21_doOwn_262 rfl ?_
            obtain ⟨σ186, hσ186, h⟩ := hl_ok h
            refine hr_pI hC F23_78 PX21_78 dX21_doOwn_264 q2919 ?_
            rw [← hσ186]
            refine hr_aload_n hC dX21_doOwn_267 rfl ?_
            refine hr_iconst (v := 1) hC dX21_doOwn_268 rfl ?_
            obtain ⟨r187, e188, h⟩ := hx_bind h
            refine hs_callV0 hC 23 [_] _ dX21_doOwn_269 q3587 q3589 qs281 q335 q3590 np_X21 rfl OB_23 pd_X21_stop (Nat.le_of_ble_eq_true rfl) hd1 (okX21_stop l E A (d - 1)  (by omega)  e188 am) rfl ?_
            obtain rfl := Option.some.inj h
            exact hr_sub _ rfl (J184)
          clear h
          have h := e169
          refine hr_if_eq (x := _) hC 67 dX21_doOwn_56 (by decide) (fun c167 => ?_) (fun c167 => ?_)
          · rw [if_pos c167] at h
            refine hr_aload_n hC dX21_doOwn_67 rfl ?_
            obtain ⟨r172, e173, h⟩ := hx_bind h
            refine hs_callV0 hC 23 [] _ dX21_doOwn_68 q3615 q3617 qs288 q335 q3618 np_X21 rfl OB_23 pd_X21_take_2 (Nat.le_of_ble_eq_true rfl) hd1 (okX21_take_2 l E A (d - 1)  (by omega)  e173 am) rfl ?_
            obtain rfl := Option.some.inj h
            exact hr_sub _ rfl (J170)
          · rw [if_neg c167] at h
            refine hr_iload_n hC dX21_doOwn_59 rfl ?_
            refine hr_if_ne (x := _) hC 67 dX21_doOwn_60 (by decide) (fun c177 => ?_) (fun c177 => ?_)
            · rw [if_neg c177] at h
              refine hr_aload_n hC dX21_doOwn_67 rfl ?_
              obtain ⟨r178, e179, h⟩ := hx_bind h
              refine hs_callV0 hC 23 [] _ dX21_doOwn_68 q3615 q3617 qs288 q335 q3618 np_X21 rfl OB_23 pd_X21_take_2 (Nat.le_of_ble_eq_true rfl) hd1 (okX21_take_2 l E A (d - 1)  (by omega)  e179 am) rfl ?_
              obtain rfl := Option.some.inj h
              exact hr_sub _ rfl (J170)
            · rw [if_pos c177] at h
              refine hr_iconst (v := 0) hC dX21_doOwn_63 rfl ?_
              refine hr_goto hC 71 dX21_doOwn_64 (by decide) ?_
              obtain rfl := Option.some.inj h
              exact hr_sub _ rfl (J170)
        clear h
        have h := e155
        refine hr_if_eq (x := _) hC 54 dX21_doOwn_41 (by decide) (fun c153 => ?_) (fun c153 => ?_)
        · rw [if_pos c153] at h
          obtain rfl := Option.some.inj h
          exact hr_sub _ rfl (J156)
        · rw [if_neg c153] at h
          refine hr_aload_n hC dX21_doOwn_44 rfl ?_
          obtain ⟨r158, e159, h⟩ := hx_bind h
          refine hs_callV0 hC 23 [] _ dX21_doOwn_45 q3615 q3617 qs288 q335 q3618 np_X21 rfl OB_23 pd_X21_take_2 (Nat.le_of_ble_eq_true rfl) hd1 (okX21_take_2 l E A (d - 1)  (by omega)  e159 am) rfl ?_
          refine hr_istore_n hC dX21_doOwn_48 (by decide) ?_
          refine hr_aload_n hC dX21_doOwn_49 rfl ?_
          obtain ⟨r162, e163, h⟩ := hx_bind h
          refine hs_callV0 hC 23 [] _ dX21_doOwn_50 q3615 q3617 qs288 q335 q3618 np_X21 rfl OB_23 pd_X21_take_2 (Nat.le_of_ble_eq_true rfl) hd1 (okX21_take_2 l E A (d - 1)  (by omega)  e163 am) rfl ?_
          refine hr_istore_n hC dX21_doOwn_53 (by decide) ?_
          obtain rfl := Option.some.inj h
          exact hr_sub _ rfl (J156)
      refine hr_if_eq (x := _) hC 32 dX21_doOwn_17 (by decide) (fun c286 => ?_) (fun c286 => ?_)
      · refine hr_iconst (v := 1) hC dX21_doOwn_32 rfl ?_
        refine hr_goto hC 37 dX21_doOwn_33 (by decide) ?_
        exact hr_sub _ rfl (J284 _ (by first | (rw [if_pos c286]; done) | (simp only [if_pos c286]; done) | rfl))
      · refine hr_iload_n hC dX21_doOwn_20 rfl ?_
        refine hr_bipush (v := 7) hC dX21_doOwn_21 rfl ?_
        refine hr_icmp_eq (x := _) hC 32 dX21_doOwn_23 (by decide) (fun c287 => ?_) (fun c287 => ?_)
        · refine hr_iconst (v := 1) hC dX21_doOwn_32 rfl ?_
          refine hr_goto hC 37 dX21_doOwn_33 (by decide) ?_
          exact hr_sub _ rfl (J284 _ (by first | (rw [if_neg c286, if_pos c287]; done) | (simp only [if_neg c286, if_pos c287]; done) | rfl))
        · refine hr_iload_n hC dX21_doOwn_26 rfl ?_
          refine hr_bipush (v := 8) hC dX21_doOwn_27 rfl ?_
          refine hr_icmp_ne (x := _) hC 36 dX21_doOwn_29 (by decide) (fun c288 => ?_) (fun c288 => ?_)
          · refine hr_iconst (v := 0) hC dX21_doOwn_36 rfl ?_
            exact hr_sub _ rfl (J284 _ (by first | (rw [if_neg c286, if_neg c287, if_neg c288]; done) | (simp only [if_neg c286, if_neg c287, if_neg c288]; done) | rfl))
          · refine hr_iconst (v := 1) hC dX21_doOwn_32 rfl ?_
            refine hr_goto hC 37 dX21_doOwn_33 (by decide) ?_
            exact hr_sub _ rfl (J284 _ (by first | (rw [if_neg c286, if_neg c287, if_pos c288]; done) | (simp only [if_neg c286, if_neg c287, if_pos c288]; done) | rfl))
    · rw [if_pos c148] at h
      obtain rfl := Option.some.inj h
      exact hr_vret hC dX21_doOwn_11
def lp_X21_doCall_10 (n : Nat) : Nat → Int32 → Int32 → Int32 → Int32 → hc_St → Option (Int32)
  | 0, _, _, _, _, _ => none
  | m + 1, y1, y2, y3, y4, σ => if y2 ≤ y3 then (some (y4)) else (hk (inb y4 (gL σ 23 25)) <| lp_X21_doCall_10 n m y1 y2 ((y3 + 1)) ((gC σ 23 25 y4)) σ)
/-- HomeCompilerModel.doCall(II)V -/
def fm_X21_doCall (n : Nat) (x1 : Int32) (x2 : Int32) (σ : hc_St) : Option hc_St := hk (inb x1 (gL σ 23 21)) <| Option.bind (lp_X21_doCall_10 n n x1 x2 0 ((gC σ 23 21 x1)) σ) fun r5 => Option.bind (α := hc_St) (if r5 < 0 then (hk (inb x1 (gL σ 23 22)) <| if (gC σ 23 22 x1) < 100 then (hk (inb x1 (gL σ 23 22)) <| Option.bind (fm_X21_doOwn n ((gC σ 23 22 x1)) σ) fun r20 => some (r20)) else (hl (pI σ 23 69 ((((gI σ 23 69)) - 1))) fun σ24 => hk (inb x1 (gL σ24 23 22)) <| Option.bind (fm_X21_enter n ((((gC σ24 23 22 x1)) - 100)) σ24) fun r26 => some (r26))) else (Option.bind (fm_X21_state ((x2 + 1)) σ) fun r30 => hk (inb x1 (gL r30 23 22)) <| Option.bind (fm_X21_isArray n ((gC r30 23 22 x1)) x2 r30) fun r35 => if r35 = 0 then (Option.bind (fm_X21_push r5 r30) fun r41 => some (r41)) else (hk (inb r5 (gL r30 23 22)) <| Option.bind (fm_X21_arrayAt ((gC r30 23 22 r5)) r30) fun r46 => Option.bind (fm_X21_give r46 r30) fun r50 => hk (inb r5 (gL r50 23 22)) <| Option.bind (fm_X21_arraySize ((gC r50 23 22 r5)) r50) fun r55 => Option.bind (fm_X21_give r55 r50) fun r59 => some (r59)))) fun r12 => some r12
set_option maxRecDepth 20000 in
set_option maxHeartbeats 4000000 in
theorem ll_X21_doCall_10 {l : Launch} {E : hc_E} {A : Nat → Prop} {am : Nat → Nat → Nat} {d : Nat} {X : hc_X} (n : Nat) (hD : 11 ≤ d) (hem : X.2.2.2.2.2.2.2.2.2.1.exceptionTable.isEmpty = true) {oc : hc_Oc} {σe : hc_St} (hC : hc_C hc_V0 E cX21_doCall 5 RX21 none d oc σe (l, A, am, []) X) : ∀ (m : Nat) (σ : hc_St) (y1 : Int32) (y2 : Int32) (y3 : Int32) (y4 : Int32) (rl : Int32) (am1 : Nat → Nat → Nat), lp_X21_doCall_10 n m y1 y2 y3 y4 σ = some rl → (hc_At hc_V0 E 5 X 30 [(0, .ref (E.2.1 23)), (1, .int y1), (2, .int y2), (4, .int rl)] [] σ am1 []) → hc_At hc_V0 E 5 X 10 [(0, .ref (E.2.1 23)), (1, .int y1), (2, .int y2), (3, .int y3), (4, .int y4)] [] σ am1 [] := by
  have hd1 : 1 ≤ d := by omega
  have hd8 : 9 ≤ d := by omega
  intro m
  induction m with
  | zero =>
    intro σ y1 y2 y3 y4 rl am1 h
    cases h
  | succ m ih =>
    intro σ y1 y2 y3 y4 rl am1 h JX
    rw [lp_X21_doCall_10] at h
    refine hr_iload_n hC dX21_doCall_10 rfl ?_
    refine hr_iload_n hC dX21_doCall_11 rfl ?_
    refine hr_icmp_ge (x := _) hC 30 dX21_doCall_12 (by decide) (fun c3 => ?_) (fun c3 => ?_)
    · rw [if_pos c3] at h
      obtain rfl := Option.some.inj h
      exact hr_sub _ rfl (JX)
    · rw [if_neg c3] at h
      refine hr_aload_n hC dX21_doCall_15 rfl ?_
      refine hr_gA hC F23_25 rfl dX21_doCall_16 q2867 ?_
      refine hr_iload hC dX21_doCall_19 rfl ?_
      obtain ⟨c4, h⟩ := hk_ok h
      refine hs_iald hC A23_25 c4 dX21_doCall_21 ?_
      refine hr_istore hC dX21_doCall_22 (by decide) ?_
      refine hr_iinc (v := y3 + 1) hC dX21_doCall_24 rfl rfl (by decide) ?_
      refine hr_goto hC 10 dX21_doCall_27 (by decide) ?_
      exact hr_sub _ rfl (ih _ _ _ _ _ _ am1 h JX)
set_option maxRecDepth 20000 in
set_option maxHeartbeats 4000000 in
theorem okX21_doCall (l : Launch) (E : hc_E) (A : Nat → Prop) (d : Nat) (n : Nat) (hD : 11 ≤ d) {x1 : Int32} {x2 : Int32} {σ : hc_St} {r : hc_St} (h : fm_X21_doCall n x1 x2 σ = some r) (am : Nat → Nat → Nat) : hc_M l hc_V0 yX21_doCall (ws_ yX21_doCall cX21_doCall 5 none) d E A [.ref (E.2.1 23), .int x1, .int x2] am [] σ (.inl none) r := by
  have hd1 : 1 ≤ d := by omega
  have hd8 : 9 ≤ d := by omega
  refine hc_enter2 (own := RX21) [(0, .ref (E.2.1 23)), (1, .int x1), (2, .int x2)] pl_X21 rfl hc_V0_st hc_G0_nd rfl (Nat.le_of_ble_eq_true rfl) (fun X hC hem => ?_)
  unfold fm_X21_doCall at h
  refine hr_iconst (v := 0) hC dX21_doCall_0 rfl ?_
  refine hr_istore_n hC dX21_doCall_1 (by decide) ?_
  refine hr_aload_n hC dX21_doCall_2 rfl ?_
  refine hr_gA hC F23_21 rfl dX21_doCall_3 q2863 ?_
  refine hr_iload_n hC dX21_doCall_6 rfl ?_
  obtain ⟨c1, h⟩ := hk_ok h
  refine hs_iald hC A23_21 c1 dX21_doCall_7 ?_
  refine hr_istore hC dX21_doCall_8 (by decide) ?_
  obtain ⟨r5, e6, h⟩ := hx_bind h
  refine hr_sub _ rfl (ll_X21_doCall_10 n hD hem hC n _ _ _ _ _ _ am e6 ?_)
  refine hr_iload hC dX21_doCall_30 rfl ?_
  obtain ⟨r12, e13, h⟩ := hx_bind h
  have J14 : hc_At hc_V0 E 5 X 145 [] [] r12 am [] := by
    obtain rfl := Option.some.inj h
    exact hr_vret hC dX21_doCall_145
  clear h
  have h := e13
  refine hr_if_lt (x := _) hC 98 dX21_doCall_32 (by decide) (fun c11 => ?_) (fun c11 => ?_)
  · rw [if_pos c11] at h
    refine hr_aload_n hC dX21_doCall_98 rfl ?_
    refine hr_gA hC F23_22 rfl dX21_doCall_99 q2864 ?_
    refine hr_iload_n hC dX21_doCall_102 rfl ?_
    obtain ⟨c16, h⟩ := hk_ok h
    refine hs_iald hC A23_22 c16 dX21_doCall_103 ?_
    refine hr_bipush (v := 100) hC dX21_doCall_104 rfl ?_
    refine hr_icmp_lt (x := _) hC 135 dX21_doCall_106 (by decide) (fun c18 => ?_) (fun c18 => ?_)
    · rw [if_pos c18] at h
      refine hr_aload_n hC dX21_doCall_135 rfl ?_
      refine hr_aload_n hC dX21_doCall_136 rfl ?_
      refine hr_gA hC F23_22 rfl dX21_doCall_137 q2864 ?_
      refine hr_iload_n hC dX21_doCall_140 rfl ?_
      obtain ⟨c19, h⟩ := hk_ok h
      refine hs_iald hC A23_22 c19 dX21_doCall_141 ?_
      obtain ⟨r20, e21, h⟩ := hx_bind h
      refine hs_callV0 hC 23 [_] _ dX21_doCall_142 q3671 q3673 qs302 q335 q3674 np_X21 rfl OB_23 pd_X21_doOwn (Nat.le_of_ble_eq_true rfl) hd1 (okX21_doOwn l E A (d - 1) n (by omega)  e21 am) rfl ?_
      obtain rfl := Option.some.inj h
      exact hr_sub _ rfl (J14)
    · rw [if_neg c18] at h
      refine hr_aload_n hC dX21_doCall_109 rfl ?_
      refine hr_dup hC dX21_doCall_110 rfl ?_
      refine hr_gI hC F23_69 dX21_doCall_111 q2910 ?_
      refine hr_iconst (v := 1) hC dX21_doCall_114 rfl ?_
      refine hr_isub hC dX21_doCall_115 ?_
      obtain ⟨σ24, hσ24, h⟩ := hl_ok h
      refine hr_pI hC F23_69 PX21_69 dX21_doCall_116 q2910 ?_
      rw [← hσ24]
      refine hr_aload_n hC dX21_doCall_119 rfl ?_
      refine hr_aload_n hC dX21_doCall_120 rfl ?_
      refine hr_gA hC F23_22 rfl dX21_doCall_121 q2864 ?_
      refine hr_iload_n hC dX21_doCall_124 rfl ?_
      obtain ⟨c25, h⟩ := hk_ok h
      refine hs_iald hC A23_22 c25 dX21_doCall_125 ?_
      refine hr_bipush (v := 100) hC dX21_doCall_126 rfl ?_
      refine hr_isub hC dX21_doCall_128 ?_
      obtain ⟨r26, e27, h⟩ := hx_bind h
      refine hs_callV0 hC 23 [_] _ dX21_doCall_129 q3579 q3581 qs279 q335 q3582 np_X21 rfl OB_23 pd_X21_enter (Nat.le_of_ble_eq_true rfl) hd1 (okX21_enter l E A (d - 1) n (by omega)  e27 am) rfl ?_
      refine hr_goto hC 145 dX21_doCall_132 (by decide) ?_
      obtain rfl := Option.some.inj h
      exact hr_sub _ rfl (J14)
  · rw [if_neg c11] at h
    refine hr_aload_n hC dX21_doCall_35 rfl ?_
    refine hr_iload_n hC dX21_doCall_36 rfl ?_
    refine hr_iconst (v := 1) hC dX21_doCall_37 rfl ?_
    refine hr_iadd hC dX21_doCall_38 ?_
    obtain ⟨r30, e31, h⟩ := hx_bind h
    refine hs_callV0 hC 23 [_] _ dX21_doCall_39 q3611 q3613 qs287 q335 q3614 np_X21 rfl OB_23 pd_X21_state (Nat.le_of_ble_eq_true rfl) hd1 (okX21_state l E A (d - 1)  (by omega)  e31 am) rfl ?_
    refine hr_aload_n hC dX21_doCall_42 rfl ?_
    refine hr_aload_n hC dX21_doCall_43 rfl ?_
    refine hr_gA hC F23_22 rfl dX21_doCall_44 q2864 ?_
    refine hr_iload_n hC dX21_doCall_47 rfl ?_
    obtain ⟨c34, h⟩ := hk_ok h
    refine hs_iald hC A23_22 c34 dX21_doCall_48 ?_
    refine hr_iload_n hC dX21_doCall_49 rfl ?_
    obtain ⟨r35, e36, h⟩ := hx_bind h
    refine hs_callV0 hC 23 [_, _] _ dX21_doCall_50 q3659 q3661 qs299 q335 q3662 np_X21 rfl OB_23 pd_X21_isArray (Nat.le_of_ble_eq_true rfl) hd1 (okX21_isArray l E A (d - 1) n (by omega)  e36 am) rfl ?_
    refine hr_if_eq (x := _) hC 89 dX21_doCall_53 (by decide) (fun c40 => ?_) (fun c40 => ?_)
    · rw [if_pos c40] at h
      refine hr_aload_n hC dX21_doCall_89 rfl ?_
      refine hr_iload hC dX21_doCall_90 rfl ?_
      obtain ⟨r41, e42, h⟩ := hx_bind h
      refine hs_callV0 hC 23 [_] _ dX21_doCall_92 q3595 q3597 qs283 q335 q3598 np_X21 rfl OB_23 pd_X21_push (Nat.le_of_ble_eq_true rfl) hd1 (okX21_push l E A (d - 1)  (by omega)  e42 am) rfl ?_
      refine hr_goto hC 145 dX21_doCall_95 (by decide) ?_
      obtain rfl := Option.some.inj h
      exact hr_sub _ rfl (J14)
    · rw [if_neg c40] at h
      refine hr_aload_n hC dX21_doCall_56 rfl ?_
      refine hr_aload_n hC dX21_doCall_57 rfl ?_
      refine hr_aload_n hC dX21_doCall_58 rfl ?_
      refine hr_gA hC F23_22 rfl dX21_doCall_59 q2864 ?_
      refine hr_iload hC dX21_doCall_62 rfl ?_
      obtain ⟨c45, h⟩ := hk_ok h
      refine hs_iald hC A23_22 c45 dX21_doCall_64 ?_
      obtain ⟨r46, e47, h⟩ := hx_bind h
      refine hs_callV0 hC 23 [_] _ dX21_doCall_65 q3663 q3665 qs300 q335 q3666 np_X21 rfl OB_23 pd_X21_arrayAt (Nat.le_of_ble_eq_true rfl) hd1 (okX21_arrayAt l E A (d - 1)  (by omega)  e47 am) rfl ?_
      obtain ⟨r50, e51, h⟩ := hx_bind h
      refine hs_callV0 hC 23 [_] _ dX21_doCall_68 q3571 q3573 qs277 q335 q3574 np_X21 rfl OB_23 pd_X21_give (Nat.le_of_ble_eq_true rfl) hd1 (okX21_give l E A (d - 1)  (by omega)  e51 am) rfl ?_
      refine hr_aload_n hC dX21_doCall_71 rfl ?_
      refine hr_aload_n hC dX21_doCall_72 rfl ?_
      refine hr_aload_n hC dX21_doCall_73 rfl ?_
      refine hr_gA hC F23_22 rfl dX21_doCall_74 q2864 ?_
      refine hr_iload hC dX21_doCall_77 rfl ?_
      obtain ⟨c54, h⟩ := hk_ok h
      refine hs_iald hC A23_22 c54 dX21_doCall_79 ?_
      obtain ⟨r55, e56, h⟩ := hx_bind h
      refine hs_callV0 hC 23 [_] _ dX21_doCall_80 q3667 q3669 qs301 q335 q3670 np_X21 rfl OB_23 pd_X21_arraySize (Nat.le_of_ble_eq_true rfl) hd1 (okX21_arraySize l E A (d - 1)  (by omega)  e56 am) rfl ?_
      obtain ⟨r59, e60, h⟩ := hx_bind h
      refine hs_callV0 hC 23 [_] _ dX21_doCall_83 q3571 q3573 qs277 q335 q3574 np_X21 rfl OB_23 pd_X21_give (Nat.le_of_ble_eq_true rfl) hd1 (okX21_give l E A (d - 1)  (by omega)  e60 am) rfl ?_
      refine hr_goto hC 145 dX21_doCall_86 (by decide) ?_
      obtain rfl := Option.some.inj h
      exact hr_sub _ rfl (J14)
/-- HomeCompilerModel.elementAt(II)I -/
def fm_X21_elementAt  (x1 : Int32) (x2 : Int32) (σ : hc_St) : Option (Int32 × hc_St) := if x2 < 0 then (Option.bind (fm_X21_stop 2 σ) fun r3 => some ((-1), r3)) else (Option.bind (fm_X21_arraySize x1 σ) fun r7 => if x2 < r7 then (Option.bind (fm_X21_arrayAt x1 σ) fun r13 => some ((r13 + x2), σ)) else (Option.bind (fm_X21_stop 2 σ) fun r17 => some ((-1), r17)))
set_option maxRecDepth 20000 in
set_option maxHeartbeats 4000000 in
theorem okX21_elementAt (l : Launch) (E : hc_E) (A : Nat → Prop) (d : Nat)  (hD : 3 ≤ d) {x1 : Int32} {x2 : Int32} {σ : hc_St} {r : (Int32 × hc_St)} (h : fm_X21_elementAt  x1 x2 σ = some r) (am : Nat → Nat → Nat) : hc_M l hc_V0 yX21_elementAt (ws_ yX21_elementAt cX21_elementAt 3 (some .int)) d E A [.ref (E.2.1 23), .int x1, .int x2] am [] σ (.inl (some (.int r.1))) r.2 := by
  have hd1 : 1 ≤ d := by omega
  refine hc_enter2 (own := RX21) [(0, .ref (E.2.1 23)), (1, .int x1), (2, .int x2)] pl_X21 rfl hc_V0_st hc_G0_nd rfl (Nat.le_of_ble_eq_true rfl) (fun X hC hem => ?_)
  unfold fm_X21_elementAt at h
  refine hr_iload_n hC dX21_elementAt_0 rfl ?_
  refine hr_if_lt (x := _) hC 13 dX21_elementAt_1 (by decide) (fun c2 => ?_) (fun c2 => ?_)
  · rw [if_pos c2] at h
    refine hr_aload_n hC dX21_elementAt_13 rfl ?_
    refine hr_iconst (v := 2) hC dX21_elementAt_14 rfl ?_
    obtain ⟨r3, e4, h⟩ := hx_bind h
    refine hs_callV0 hC 23 [_] _ dX21_elementAt_15 q3587 q3589 qs281 q335 q3590 np_X21 rfl OB_23 pd_X21_stop (Nat.le_of_ble_eq_true rfl) hd1 (okX21_stop l E A (d - 1)  (by omega)  e4 am) rfl ?_
    refine hr_iconst (v := (-1)) hC dX21_elementAt_18 rfl ?_
    obtain rfl := Option.some.inj h
    exact hr_iret hC dX21_elementAt_19
  · rw [if_neg c2] at h
    refine hr_iload_n hC dX21_elementAt_4 rfl ?_
    refine hr_aload_n hC dX21_elementAt_5 rfl ?_
    refine hr_iload_n hC dX21_elementAt_6 rfl ?_
    obtain ⟨r7, e8, h⟩ := hx_bind h
    refine hs_callV0 hC 23 [_] _ dX21_elementAt_7 q3667 q3669 qs301 q335 q3670 np_X21 rfl OB_23 pd_X21_arraySize (Nat.le_of_ble_eq_true rfl) hd1 (okX21_arraySize l E A (d - 1)  (by omega)  e8 am) rfl ?_
    refine hr_icmp_lt (x := _) hC 20 dX21_elementAt_10 (by decide) (fun c12 => ?_) (fun c12 => ?_)
    · rw [if_pos c12] at h
      refine hr_aload_n hC dX21_elementAt_20 rfl ?_
      refine hr_iload_n hC dX21_elementAt_21 rfl ?_
      obtain ⟨r13, e14, h⟩ := hx_bind h
      refine hs_callV0 hC 23 [_] _ dX21_elementAt_22 q3663 q3665 qs300 q335 q3666 np_X21 rfl OB_23 pd_X21_arrayAt (Nat.le_of_ble_eq_true rfl) hd1 (okX21_arrayAt l E A (d - 1)  (by omega)  e14 am) rfl ?_
      refine hr_iload_n hC dX21_elementAt_25 rfl ?_
      refine hr_iadd hC dX21_elementAt_26 ?_
      obtain rfl := Option.some.inj h
      exact hr_iret hC dX21_elementAt_27
    · rw [if_neg c12] at h
      refine hr_aload_n hC dX21_elementAt_13 rfl ?_
      refine hr_iconst (v := 2) hC dX21_elementAt_14 rfl ?_
      obtain ⟨r17, e18, h⟩ := hx_bind h
      refine hs_callV0 hC 23 [_] _ dX21_elementAt_15 q3587 q3589 qs281 q335 q3590 np_X21 rfl OB_23 pd_X21_stop (Nat.le_of_ble_eq_true rfl) hd1 (okX21_stop l E A (d - 1)  (by omega)  e18 am) rfl ?_
      refine hr_iconst (v := (-1)) hC dX21_elementAt_18 rfl ?_
      obtain rfl := Option.some.inj h
      exact hr_iret hC dX21_elementAt_19
/-- HomeCompilerModel.placeOf(I)I -/
def fm_X21_placeOf  (x1 : Int32) (σ : hc_St) : Option (Int32 × hc_St) := hk (inb x1 (gL σ 23 18)) <| Option.bind (α := hc_St × Int32) (if (gC σ 23 18 x1).toInt8.toInt32 = 4 then (hk (inb x1 (gL σ 23 22)) <| Option.bind (fm_X21_take_2  σ) fun r14 => Option.bind (fm_X21_elementAt ((gC σ 23 22 x1)) r14.1 r14.2) fun r18 => some (r18.2, r18.1)) else (hk (inb x1 (gL σ 23 22)) <| Option.bind (fm_X21_cellOf ((gC σ 23 22 x1)) σ) fun r9 => some (σ, r9))) fun r4 => some (r4.2, r4.1)
set_option maxRecDepth 20000 in
set_option maxHeartbeats 4000000 in
theorem okX21_placeOf (l : Launch) (E : hc_E) (A : Nat → Prop) (d : Nat)  (hD : 4 ≤ d) {x1 : Int32} {σ : hc_St} {r : (Int32 × hc_St)} (h : fm_X21_placeOf  x1 σ = some r) (am : Nat → Nat → Nat) : hc_M l hc_V0 yX21_placeOf (ws_ yX21_placeOf cX21_placeOf 2 (some .int)) d E A [.ref (E.2.1 23), .int x1] am [] σ (.inl (some (.int r.1))) r.2 := by
  have hd1 : 1 ≤ d := by omega
  refine hc_enter2 (own := RX21) [(0, .ref (E.2.1 23)), (1, .int x1)] pl_X21 rfl hc_V0_st hc_G0_nd rfl (Nat.le_of_ble_eq_true rfl) (fun X hC hem => ?_)
  unfold fm_X21_placeOf at h
  refine hr_aload_n hC dX21_placeOf_0 rfl ?_
  refine hr_gA hC F23_18 rfl dX21_placeOf_1 q2860 ?_
  refine hr_iload_n hC dX21_placeOf_4 rfl ?_
  obtain ⟨c1, h⟩ := hk_ok h
  refine hs_bald hC A23_18 c1 dX21_placeOf_5 ?_
  refine hr_iconst (v := 4) hC dX21_placeOf_6 rfl ?_
  obtain ⟨r4, e5, h⟩ := hx_bind h
  have J6 : hc_At hc_V0 E 2 X 37 [] [.int r4.2] r4.1 am [] := by
    obtain rfl := Option.some.inj h
    exact hr_iret hC dX21_placeOf_37
  clear h
  have h := e5
  refine hr_icmp_ne (x := _) hC 27 dX21_placeOf_7 (by decide) (fun c3 => ?_) (fun c3 => ?_)
  · rw [if_neg c3] at h
    refine hr_aload_n hC dX21_placeOf_27 rfl ?_
    refine hr_aload_n hC dX21_placeOf_28 rfl ?_
    refine hr_gA hC F23_22 rfl dX21_placeOf_29 q2864 ?_
    refine hr_iload_n hC dX21_placeOf_32 rfl ?_
    obtain ⟨c8, h⟩ := hk_ok h
    refine hs_iald hC A23_22 c8 dX21_placeOf_33 ?_
    obtain ⟨r9, e10, h⟩ := hx_bind h
    refine hs_callV0 hC 23 [_] _ dX21_placeOf_34 q3559 q3561 qs274 q335 q3562 np_X21 rfl OB_23 pd_X21_cellOf (Nat.le_of_ble_eq_true rfl) hd1 (okX21_cellOf l E A (d - 1)  (by omega)  e10 am) rfl ?_
    obtain rfl := Option.some.inj h
    exact hr_sub _ rfl (J6)
  · rw [if_pos c3] at h
    refine hr_aload_n hC dX21_placeOf_10 rfl ?_
    refine hr_aload_n hC dX21_placeOf_11 rfl ?_
    refine hr_gA hC F23_22 rfl dX21_placeOf_12 q2864 ?_
    refine hr_iload_n hC dX21_placeOf_15 rfl ?_
    obtain ⟨c13, h⟩ := hk_ok h
    refine hs_iald hC A23_22 c13 dX21_placeOf_16 ?_
    refine hr_aload_n hC dX21_placeOf_17 rfl ?_
    obtain ⟨r14, e15, h⟩ := hx_bind h
    refine hs_callV0 hC 23 [] _ dX21_placeOf_18 q3615 q3617 qs288 q335 q3618 np_X21 rfl OB_23 pd_X21_take_2 (Nat.le_of_ble_eq_true rfl) hd1 (okX21_take_2 l E A (d - 1)  (by omega)  e15 am) rfl ?_
    obtain ⟨r18, e19, h⟩ := hx_bind h
    refine hs_callV0 hC 23 [_, _] _ dX21_placeOf_21 q3687 q3689 qs306 q335 q3690 np_X21 rfl OB_23 pd_X21_elementAt (Nat.le_of_ble_eq_true rfl) hd1 (okX21_elementAt l E A (d - 1)  (by omega)  e19 am) rfl ?_
    refine hr_goto hC 37 dX21_placeOf_24 (by decide) ?_
    obtain rfl := Option.some.inj h
    exact hr_sub _ rfl (J6)
/-- HomeCompilerModel.doStep(IIZ)V -/
def fm_X21_doStep  (x1 : Int32) (x2 : Int32) (x3 : Int32) (σ : hc_St) : Option hc_St := hk (inb x1 (gL σ 23 21)) <| if x2 = 0 then (hk (inb ((gC σ 23 21 x1)) (gL σ 23 18)) <| if (gC σ 23 18 ((gC σ 23 21 x1))).toInt8.toInt32 = 4 then (Option.bind (fm_X21_state 1 σ) fun r81 => hk (inb ((gC σ 23 21 x1)) (gL r81 23 21)) <| Option.bind (fm_X21_push ((gC r81 23 21 ((gC σ 23 21 x1)))) r81) fun r86 => some r86) else (Option.bind (fm_X21_placeOf ((gC σ 23 21 x1)) σ) fun r44 => Option.bind (α := hc_St) (if r44.1 < 0 then (some (r44.2)) else (hk (inb r44.1 (gL r44.2 23 66)) <| hk (inb ((gC σ 23 21 x1)) (gL r44.2 23 22)) <| hk (inb x1 (gL r44.2 23 19)) <| hk (inb ((gC r44.2 23 19 x1)) (gL r44.2 23 11)) <| hk (inb ((gC r44.2 23 11 ((gC r44.2 23 19 x1)))) (gL r44.2 23 7)) <| hl (α := Int32) ((if (gC r44.2 23 7 ((gC r44.2 23 11 ((gC r44.2 23 19 x1))))).toInt8.toInt32 = 43 then (((gC r44.2 23 66 r44.1)) + 1) else (((gC r44.2 23 66 r44.1)) - 1))) fun v61 => Option.bind (fm_X21_stored ((gC r44.2 23 22 ((gC σ 23 21 x1)))) v61 r44.2) fun r62 => hk (inb r44.1 (gL r44.2 23 66)) <| hl (pC r44.2 23 66 r44.1 r62) fun σ67 => hl (α := Int32) ((if x3 = 0 then (gC r44.2 23 66 r44.1) else r62)) fun v70 => Option.bind (fm_X21_done v70 σ67) fun r71 => some (r71))) fun r50 => some r50)) else (Option.bind (fm_X21_placeOf ((gC σ 23 21 x1)) σ) fun r4 => Option.bind (α := hc_St) (if r4.1 < 0 then (some (r4.2)) else (hk (inb r4.1 (gL r4.2 23 66)) <| hk (inb ((gC σ 23 21 x1)) (gL r4.2 23 22)) <| hk (inb x1 (gL r4.2 23 19)) <| hk (inb ((gC r4.2 23 19 x1)) (gL r4.2 23 11)) <| hk (inb ((gC r4.2 23 11 ((gC r4.2 23 19 x1)))) (gL r4.2 23 7)) <| hl (α := Int32) ((if (gC r4.2 23 7 ((gC r4.2 23 11 ((gC r4.2 23 19 x1))))).toInt8.toInt32 = 43 then (((gC r4.2 23 66 r4.1)) + 1) else (((gC r4.2 23 66 r4.1)) - 1))) fun v21 => Option.bind (fm_X21_stored ((gC r4.2 23 22 ((gC σ 23 21 x1)))) v21 r4.2) fun r22 => hk (inb r4.1 (gL r4.2 23 66)) <| hl (pC r4.2 23 66 r4.1 r22) fun σ27 => hl (α := Int32) ((if x3 = 0 then (gC r4.2 23 66 r4.1) else r22)) fun v30 => Option.bind (fm_X21_done v30 σ27) fun r31 => some (r31))) fun r10 => some r10)
set_option maxRecDepth 20000 in
set_option maxHeartbeats 4000000 in
theorem okX21_doStep (l : Launch) (E : hc_E) (A : Nat → Prop) (d : Nat)  (hD : 5 ≤ d) {x1 : Int32} {x2 : Int32} {x3 : Int32} {σ : hc_St} {r : hc_St} (h : fm_X21_doStep  x1 x2 x3 σ = some r) (am : Nat → Nat → Nat) : hc_M l hc_V0 yX21_doStep (ws_ yX21_doStep cX21_doStep 8 none) d E A [.ref (E.2.1 23), .int x1, .int x2, .int x3] am [] σ (.inl none) r := by
  have hd1 : 1 ≤ d := by omega
  refine hc_enter2 (own := RX21) [(0, .ref (E.2.1 23)), (1, .int x1), (2, .int x2), (3, .int x3)] pl_X21 rfl hc_V0_st hc_G0_nd rfl (Nat.le_of_ble_eq_true rfl) (fun X hC hem => ?_)
  unfold fm_X21_doStep at h
  refine hr_aload_n hC dX21_doStep_0 rfl ?_
  refine hr_gA hC F23_21 rfl dX21_doStep_1 q2863 ?_
  refine hr_iload_n hC dX21_doStep_4 rfl ?_
  obtain ⟨c1, h⟩ := hk_ok h
  refine hs_iald hC A23_21 c1 dX21_doStep_5 ?_
  refine hr_istore hC dX21_doStep_6 (by decide) ?_
  refine hr_iload_n hC dX21_doStep_8 rfl ?_
  refine hr_if_ne (x := _) hC 40 dX21_doStep_9 (by decide) (fun c3 => ?_) (fun c3 => ?_)
  · rw [if_neg c3] at h
    refine hr_aload_n hC dX21_doStep_40 rfl ?_
    refine hr_iload hC dX21_doStep_41 rfl ?_
    obtain ⟨r4, e5, h⟩ := hx_bind h
    refine hs_callV0 hC 23 [_] _ dX21_doStep_43 q3699 q3701 qs309 q335 q3702 np_X21 rfl OB_23 pd_X21_placeOf (Nat.le_of_ble_eq_true rfl) hd1 (okX21_placeOf l E A (d - 1)  (by omega)  e5 am) rfl ?_
    refine hr_istore hC dX21_doStep_46 (by decide) ?_
    refine hr_iload hC dX21_doStep_48 rfl ?_
    obtain ⟨r10, e11, h⟩ := hx_bind h
    have J12 : hc_At hc_V0 E 8 X 131 [] [] r10 am [] := by
      obtain rfl := Option.some.inj h
      exact hr_vret hC dX21_doStep_131
    clear h
    have h := e11
    refine hr_if_lt (x := _) hC 131 dX21_doStep_50 (by decide) (fun c9 => ?_) (fun c9 => ?_)
    · rw [if_pos c9] at h
      obtain rfl := Option.some.inj h
      exact hr_sub _ rfl (J12)
    · rw [if_neg c9] at h
      refine hr_aload_n hC dX21_doStep_53 rfl ?_
      refine hr_gA hC F23_66 rfl dX21_doStep_54 q2907 ?_
      refine hr_iload hC dX21_doStep_57 rfl ?_
      obtain ⟨c14, h⟩ := hk_ok h
      refine hs_iald hC A23_66 c14 dX21_doStep_59 ?_
      refine hr_istore hC dX21_doStep_60 (by decide) ?_
      refine hr_aload_n hC dX21_doStep_62 rfl ?_
      refine hr_aload_n hC dX21_doStep_63 rfl ?_
      refine hr_gA hC F23_22 rfl dX21_doStep_64 q2864 ?_
      refine hr_iload hC dX21_doStep_67 rfl ?_
      obtain ⟨c15, h⟩ := hk_ok h
      refine hs_iald hC A23_22 c15 dX21_doStep_69 ?_
      refine hr_aload_n hC dX21_doStep_70 rfl ?_
      refine hr_gA hC F23_7 rfl dX21_doStep_71 q2849 ?_
      refine hr_aload_n hC dX21_doStep_74 rfl ?_
      refine hr_gA hC F23_11 rfl dX21_doStep_75 q2853 ?_
      refine hr_aload_n hC dX21_doStep_78 rfl ?_
      refine hr_gA hC F23_19 rfl dX21_doStep_79 q2861 ?_
      refine hr_iload_n hC dX21_doStep_82 rfl ?_
      obtain ⟨c16, h⟩ := hk_ok h
      refine hs_iald hC A23_19 c16 dX21_doStep_83 ?_
      obtain ⟨c17, h⟩ := hk_ok h
      refine hs_iald hC A23_11 c17 dX21_doStep_84 ?_
      obtain ⟨c18, h⟩ := hk_ok h
      refine hs_bald hC A23_7 c18 dX21_doStep_85 ?_
      refine hr_bipush (v := 43) hC dX21_doStep_86 rfl ?_
      obtain ⟨v21, hv21, h⟩ := hl_ok h
      have J38 : ∀ w39 : Int32, (if (gC r4.2 23 7 ((gC r4.2 23 11 ((gC r4.2 23 19 x1))))).toInt8.toInt32 = 43 then (((gC r4.2 23 66 r4.1)) + 1) else (((gC r4.2 23 66 r4.1)) - 1)) = w39 → hc_At hc_V0 E 8 X 102 [(0, .ref (E.2.1 23)), (3, .int x3), (5, .int r4.1), (6, .int (gC r4.2 23 66 r4.1))] [.int w39, .int (gC r4.2 23 22 ((gC σ 23 21 x1))), .ref (E.2.1 23)] r4.2 am [] := by
        intro w39 hw39
        obtain rfl := hv21.trans hw39
        obtain ⟨r22, e23, h⟩ := hx_bind h
        refine hs_callV0 hC 23 [_, _] _ dX21_doStep_102 q3563 q3565 qs275 q335 q3566 np_X21 rfl OB_23 pd_X21_stored (Nat.le_of_ble_eq_true rfl) hd1 (okX21_stored l E A (d - 1)  (by omega)  e23 am) rfl ?_
        refine hr_istore hC dX21_doStep_105 (by decide) ?_
        refine hr_aload_n hC dX21_doStep_107 rfl ?_
        refine hr_gA hC F23_66 rfl dX21_doStep_108 q2907 ?_
        refine hr_iload hC dX21_doStep_111 rfl ?_
        refine hr_iload hC dX21_doStep_113 rfl ?_
        obtain ⟨c26, h⟩ := hk_ok h
        obtain ⟨σ27, hσ27, h⟩ := hl_ok h
        refine hs_iast hC A23_66 c26 dX21_doStep_115 ?_
        rw [← hσ27]
        refine hr_aload_n hC dX21_doStep_116 rfl ?_
        refine hr_iload_n hC dX21_doStep_117 rfl ?_
        obtain ⟨v30, hv30, h⟩ := hl_ok h
        have J35 : ∀ w36 : Int32, (if x3 = 0 then (gC r4.2 23 66 r4.1) else r22) = w36 → hc_At hc_V0 E 8 X 128 [] [.int w36, .ref (E.2.1 23)] σ27 am [] := by
          intro w36 hw36
          obtain rfl := hv30.trans hw36
          obtain ⟨r31, e32, h⟩ := hx_bind h
          refine hs_callV0 hC 23 [_] _ dX21_doStep_128 q3651 q3653 qs297 q335 q3654 np_X21 rfl OB_23 pd_X21_done (Nat.le_of_ble_eq_true rfl) hd1 (okX21_done l E A (d - 1)  (by omega)  e32 am) rfl ?_
          obtain rfl := Option.some.inj h
          exact hr_sub _ rfl (J12)
        refine hr_if_eq (x := _) hC 126 dX21_doStep_118 (by decide) (fun c37 => ?_) (fun c37 => ?_)
        · refine hr_iload hC dX21_doStep_126 rfl ?_
          exact hr_sub _ rfl (J35 _ (by first | (rw [if_pos c37]; done) | (simp only [if_pos c37]; done) | rfl))
        · refine hr_iload hC dX21_doStep_121 rfl ?_
          refine hr_goto hC 128 dX21_doStep_123 (by decide) ?_
          exact hr_sub _ rfl (J35 _ (by first | (rw [if_neg c37]; done) | (simp only [if_neg c37]; done) | rfl))
      refine hr_icmp_ne (x := _) hC 98 dX21_doStep_88 (by decide) (fun c40 => ?_) (fun c40 => ?_)
      · refine hr_iload hC dX21_doStep_98 rfl ?_
        refine hr_iconst (v := 1) hC dX21_doStep_100 rfl ?_
        refine hr_isub hC dX21_doStep_101 ?_
        exact hr_sub _ rfl (J38 _ (by first | (rw [if_neg c40]; done) | (simp only [if_neg c40]; done) | rfl))
      · refine hr_iload hC dX21_doStep_91 rfl ?_
        refine hr_iconst (v := 1) hC dX21_doStep_93 rfl ?_
        refine hr_iadd hC dX21_doStep_94 ?_
        refine hr_goto hC 102 dX21_doStep_95 (by decide) ?_
        exact hr_sub _ rfl (J38 _ (by first | (rw [if_pos c40]; done) | (simp only [if_pos c40]; done) | rfl))
  · rw [if_pos c3] at h
    refine hr_aload_n hC dX21_doStep_12 rfl ?_
    refine hr_gA hC F23_18 rfl dX21_doStep_13 q2860 ?_
    refine hr_iload hC dX21_doStep_16 rfl ?_
    obtain ⟨c41, h⟩ := hk_ok h
    refine hs_bald hC A23_18 c41 dX21_doStep_18 ?_
    refine hr_iconst (v := 4) hC dX21_doStep_19 rfl ?_
    refine hr_icmp_ne (x := _) hC 40 dX21_doStep_20 (by decide) (fun c43 => ?_) (fun c43 => ?_)
    · rw [if_neg c43] at h
      refine hr_aload_n hC dX21_doStep_40 rfl ?_
      refine hr_iload hC dX21_doStep_41 rfl ?_
      obtain ⟨r44, e45, h⟩ := hx_bind h
      refine hs_callV0 hC 23 [_] _ dX21_doStep_43 q3699 q3701 qs309 q335 q3702 np_X21 rfl OB_23 pd_X21_placeOf (Nat.le_of_ble_eq_true rfl) hd1 (okX21_placeOf l E A (d - 1)  (by omega)  e45 am) rfl ?_
      refine hr_istore hC dX21_doStep_46 (by decide) ?_
      refine hr_iload hC dX21_doStep_48 rfl ?_
      obtain ⟨r50, e51, h⟩ := hx_bind h
      have J52 : hc_At hc_V0 E 8 X 131 [] [] r50 am [] := by
        obtain rfl := Option.some.inj h
        exact hr_vret hC dX21_doStep_131
      clear h
      have h := e51
      refine hr_if_lt (x := _) hC 131 dX21_doStep_50 (by decide) (fun c49 => ?_) (fun c49 => ?_)
      · rw [if_pos c49] at h
        obtain rfl := Option.some.inj h
        exact hr_sub _ rfl (J52)
      · rw [if_neg c49] at h
        refine hr_aload_n hC dX21_doStep_53 rfl ?_
        refine hr_gA hC F23_66 rfl dX21_doStep_54 q2907 ?_
        refine hr_iload hC dX21_doStep_57 rfl ?_
        obtain ⟨c54, h⟩ := hk_ok h
        refine hs_iald hC A23_66 c54 dX21_doStep_59 ?_
        refine hr_istore hC dX21_doStep_60 (by decide) ?_
        refine hr_aload_n hC dX21_doStep_62 rfl ?_
        refine hr_aload_n hC dX21_doStep_63 rfl ?_
        refine hr_gA hC F23_22 rfl dX21_doStep_64 q2864 ?_
        refine hr_iload hC dX21_doStep_67 rfl ?_
        obtain ⟨c55, h⟩ := hk_ok h
        refine hs_iald hC A23_22 c55 dX21_doStep_69 ?_
        refine hr_aload_n hC dX21_doStep_70 rfl ?_
        refine hr_gA hC F23_7 rfl dX21_doStep_71 q2849 ?_
        refine hr_aload_n hC dX21_doStep_74 rfl ?_
        refine hr_gA hC F23_11 rfl dX21_doStep_75 q2853 ?_
        refine hr_aload_n hC dX21_doStep_78 rfl ?_
        refine hr_gA hC F23_19 rfl dX21_doStep_79 q2861 ?_
        refine hr_iload_n hC dX21_doStep_82 rfl ?_
        obtain ⟨c56, h⟩ := hk_ok h
        refine hs_iald hC A23_19 c56 dX21_doStep_83 ?_
        obtain ⟨c57, h⟩ := hk_ok h
        refine hs_iald hC A23_11 c57 dX21_doStep_84 ?_
        obtain ⟨c58, h⟩ := hk_ok h
        refine hs_bald hC A23_7 c58 dX21_doStep_85 ?_
        refine hr_bipush (v := 43) hC dX21_doStep_86 rfl ?_
        obtain ⟨v61, hv61, h⟩ := hl_ok h
        have J78 : ∀ w79 : Int32, (if (gC r44.2 23 7 ((gC r44.2 23 11 ((gC r44.2 23 19 x1))))).toInt8.toInt32 = 43 then (((gC r44.2 23 66 r44.1)) + 1) else (((gC r44.2 23 66 r44.1)) - 1)) = w79 → hc_At hc_V0 E 8 X 102 [(0, .ref (E.2.1 23)), (3, .int x3), (5, .int r44.1), (6, .int (gC r44.2 23 66 r44.1))] [.int w79, .int (gC r44.2 23 22 ((gC σ 23 21 x1))), .ref (E.2.1 23)] r44.2 am [] := by
          intro w79 hw79
          obtain rfl := hv61.trans hw79
          obtain ⟨r62, e63, h⟩ := hx_bind h
          refine hs_callV0 hC 23 [_, _] _ dX21_doStep_102 q3563 q3565 qs275 q335 q3566 np_X21 rfl OB_23 pd_X21_stored (Nat.le_of_ble_eq_true rfl) hd1 (okX21_stored l E A (d - 1)  (by omega)  e63 am) rfl ?_
          refine hr_istore hC dX21_doStep_105 (by decide) ?_
          refine hr_aload_n hC dX21_doStep_107 rfl ?_
          refine hr_gA hC F23_66 rfl dX21_doStep_108 q2907 ?_
          refine hr_iload hC dX21_doStep_111 rfl ?_
          refine hr_iload hC dX21_doStep_113 rfl ?_
          obtain ⟨c66, h⟩ := hk_ok h
          obtain ⟨σ67, hσ67, h⟩ := hl_ok h
          refine hs_iast hC A23_66 c66 dX21_doStep_115 ?_
          rw [← hσ67]
          refine hr_aload_n hC dX21_doStep_116 rfl ?_
          refine hr_iload_n hC dX21_doStep_117 rfl ?_
          obtain ⟨v70, hv70, h⟩ := hl_ok h
          have J75 : ∀ w76 : Int32, (if x3 = 0 then (gC r44.2 23 66 r44.1) else r62) = w76 → hc_At hc_V0 E 8 X 128 [] [.int w76, .ref (E.2.1 23)] σ67 am [] := by
            intro w76 hw76
            obtain rfl := hv70.trans hw76
            obtain ⟨r71, e72, h⟩ := hx_bind h
            refine hs_callV0 hC 23 [_] _ dX21_doStep_128 q3651 q3653 qs297 q335 q3654 np_X21 rfl OB_23 pd_X21_done (Nat.le_of_ble_eq_true rfl) hd1 (okX21_done l E A (d - 1)  (by omega)  e72 am) rfl ?_
            obtain rfl := Option.some.inj h
            exact hr_sub _ rfl (J52)
          refine hr_if_eq (x := _) hC 126 dX21_doStep_118 (by decide) (fun c77 => ?_) (fun c77 => ?_)
          · refine hr_iload hC dX21_doStep_126 rfl ?_
            exact hr_sub _ rfl (J75 _ (by first | (rw [if_pos c77]; done) | (simp only [if_pos c77]; done) | rfl))
          · refine hr_iload hC dX21_doStep_121 rfl ?_
            refine hr_goto hC 128 dX21_doStep_123 (by decide) ?_
            exact hr_sub _ rfl (J75 _ (by first | (rw [if_neg c77]; done) | (simp only [if_neg c77]; done) | rfl))
        refine hr_icmp_ne (x := _) hC 98 dX21_doStep_88 (by decide) (fun c80 => ?_) (fun c80 => ?_)
        · refine hr_iload hC dX21_doStep_98 rfl ?_
          refine hr_iconst (v := 1) hC dX21_doStep_100 rfl ?_
          refine hr_isub hC dX21_doStep_101 ?_
          exact hr_sub _ rfl (J78 _ (by first | (rw [if_neg c80]; done) | (simp only [if_neg c80]; done) | rfl))
        · refine hr_iload hC dX21_doStep_91 rfl ?_
          refine hr_iconst (v := 1) hC dX21_doStep_93 rfl ?_
          refine hr_iadd hC dX21_doStep_94 ?_
          refine hr_goto hC 102 dX21_doStep_95 (by decide) ?_
          exact hr_sub _ rfl (J78 _ (by first | (rw [if_pos c80]; done) | (simp only [if_pos c80]; done) | rfl))
    · rw [if_pos c43] at h
      refine hr_aload_n hC dX21_doStep_23 rfl ?_
      refine hr_iconst (v := 1) hC dX21_doStep_24 rfl ?_
      obtain ⟨r81, e82, h⟩ := hx_bind h
      refine hs_callV0 hC 23 [_] _ dX21_doStep_25 q3611 q3613 qs287 q335 q3614 np_X21 rfl OB_23 pd_X21_state (Nat.le_of_ble_eq_true rfl) hd1 (okX21_state l E A (d - 1)  (by omega)  e82 am) rfl ?_
      refine hr_aload_n hC dX21_doStep_28 rfl ?_
      refine hr_aload_n hC dX21_doStep_29 rfl ?_
      refine hr_gA hC F23_21 rfl dX21_doStep_30 q2863 ?_
      refine hr_iload hC dX21_doStep_33 rfl ?_
      obtain ⟨c85, h⟩ := hk_ok h
      refine hs_iald hC A23_21 c85 dX21_doStep_35 ?_
      obtain ⟨r86, e87, h⟩ := hx_bind h
      refine hs_callV0 hC 23 [_] _ dX21_doStep_36 q3595 q3597 qs283 q335 q3598 np_X21 rfl OB_23 pd_X21_push (Nat.le_of_ble_eq_true rfl) hd1 (okX21_push l E A (d - 1)  (by omega)  e87 am) rfl ?_
      obtain rfl := Option.some.inj h
      exact hr_vret hC dX21_doStep_39
/-- HomeCompilerModel.doUnary(II)V -/
def fm_X21_doUnary  (x1 : Int32) (x2 : Int32) (σ : hc_St) : Option hc_St := hk (inb x1 (gL σ 23 19)) <| hk (inb ((gC σ 23 19 x1)) (gL σ 23 12)) <| Option.bind (α := hc_St) (if (gC σ 23 12 ((gC σ 23 19 x1))) = 2 then (Option.bind (fm_X21_doStep x1 x2 1 σ) fun r41 => some (r41)) else (if x2 = 0 then (Option.bind (fm_X21_state 1 σ) fun r32 => hk (inb x1 (gL r32 23 21)) <| Option.bind (fm_X21_push ((gC r32 23 21 x1)) r32) fun r37 => some (r37)) else (Option.bind (fm_X21_take_2  σ) fun r11 => hk (inb x1 (gL r11.2 23 19)) <| hk (inb ((gC r11.2 23 19 x1)) (gL r11.2 23 11)) <| hk (inb ((gC r11.2 23 11 ((gC r11.2 23 19 x1)))) (gL r11.2 23 7)) <| hl (α := Int32) ((gC r11.2 23 7 ((gC r11.2 23 11 ((gC r11.2 23 19 x1))))).toInt8.toInt32) fun v18 => hl (α := Int32) ((if v18 = 45 then (-r11.1) else (if v18 = 33 then (if r11.1 = 0 then 1 else 0) else (if v18 = 126 then (r11.1 ^^^ ((-1))) else r11.1)))) fun v21 => Option.bind (fm_X21_done v21 r11.2) fun r22 => some (r22)))) fun r5 => some r5
set_option maxRecDepth 20000 in
set_option maxHeartbeats 4000000 in
theorem okX21_doUnary (l : Launch) (E : hc_E) (A : Nat → Prop) (d : Nat)  (hD : 6 ≤ d) {x1 : Int32} {x2 : Int32} {σ : hc_St} {r : hc_St} (h : fm_X21_doUnary  x1 x2 σ = some r) (am : Nat → Nat → Nat) : hc_M l hc_V0 yX21_doUnary (ws_ yX21_doUnary cX21_doUnary 5 none) d E A [.ref (E.2.1 23), .int x1, .int x2] am [] σ (.inl none) r := by
  have hd1 : 1 ≤ d := by omega
  refine hc_enter2 (own := RX21) [(0, .ref (E.2.1 23)), (1, .int x1), (2, .int x2)] pl_X21 rfl hc_V0_st hc_G0_nd rfl (Nat.le_of_ble_eq_true rfl) (fun X hC hem => ?_)
  unfold fm_X21_doUnary at h
  refine hr_aload_n hC dX21_doUnary_0 rfl ?_
  refine hr_gA hC F23_12 rfl dX21_doUnary_1 q2854 ?_
  refine hr_aload_n hC dX21_doUnary_4 rfl ?_
  refine hr_gA hC F23_19 rfl dX21_doUnary_5 q2861 ?_
  refine hr_iload_n hC dX21_doUnary_8 rfl ?_
  obtain ⟨c1, h⟩ := hk_ok h
  refine hs_iald hC A23_19 c1 dX21_doUnary_9 ?_
  obtain ⟨c2, h⟩ := hk_ok h
  refine hs_iald hC A23_12 c2 dX21_doUnary_10 ?_
  refine hr_iconst (v := 2) hC dX21_doUnary_11 rfl ?_
  obtain ⟨r5, e6, h⟩ := hx_bind h
  have J7 : hc_At hc_V0 E 5 X 119 [] [] r5 am [] := by
    obtain rfl := Option.some.inj h
    exact hr_vret hC dX21_doUnary_119
  clear h
  have h := e6
  refine hr_icmp_ne (x := _) hC 25 dX21_doUnary_12 (by decide) (fun c4 => ?_) (fun c4 => ?_)
  · rw [if_neg c4] at h
    refine hr_iload_n hC dX21_doUnary_25 rfl ?_
    refine hr_if_ne (x := _) hC 47 dX21_doUnary_26 (by decide) (fun c10 => ?_) (fun c10 => ?_)
    · rw [if_neg c10] at h
      refine hr_aload_n hC dX21_doUnary_47 rfl ?_
      obtain ⟨r11, e12, h⟩ := hx_bind h
      refine hs_callV0 hC 23 [] _ dX21_doUnary_48 q3615 q3617 qs288 q335 q3618 np_X21 rfl OB_23 pd_X21_take_2 (Nat.le_of_ble_eq_true rfl) hd1 (okX21_take_2 l E A (d - 1)  (by omega)  e12 am) rfl ?_
      refine hr_istore_n hC dX21_doUnary_51 (by decide) ?_
      refine hr_aload_n hC dX21_doUnary_52 rfl ?_
      refine hr_gA hC F23_7 rfl dX21_doUnary_53 q2849 ?_
      refine hr_aload_n hC dX21_doUnary_56 rfl ?_
      refine hr_gA hC F23_11 rfl dX21_doUnary_57 q2853 ?_
      refine hr_aload_n hC dX21_doUnary_60 rfl ?_
      refine hr_gA hC F23_19 rfl dX21_doUnary_61 q2861 ?_
      refine hr_iload_n hC dX21_doUnary_64 rfl ?_
      obtain ⟨c15, h⟩ := hk_ok h
      refine hs_iald hC A23_19 c15 dX21_doUnary_65 ?_
      obtain ⟨c16, h⟩ := hk_ok h
      refine hs_iald hC A23_11 c16 dX21_doUnary_66 ?_
      obtain ⟨c17, h⟩ := hk_ok h
      refine hs_bald hC A23_7 c17 dX21_doUnary_67 ?_
      obtain ⟨v18, hv18, h⟩ := hl_ok h
      refine hr_istore hC dX21_doUnary_68 (by decide) ?_
      rw [← hv18]
      refine hr_aload_n hC dX21_doUnary_70 rfl ?_
      refine hr_iload hC dX21_doUnary_71 rfl ?_
      refine hr_bipush (v := 45) hC dX21_doUnary_73 rfl ?_
      obtain ⟨v21, hv21, h⟩ := hl_ok h
      have J26 : ∀ w27 : Int32, (if v18 = 45 then (-r11.1) else (if v18 = 33 then (if r11.1 = 0 then 1 else 0) else (if v18 = 126 then (r11.1 ^^^ ((-1))) else r11.1))) = w27 → hc_At hc_V0 E 5 X 116 [] [.int w27, .ref (E.2.1 23)] r11.2 am [] := by
        intro w27 hw27
        obtain rfl := hv21.trans hw27
        obtain ⟨r22, e23, h⟩ := hx_bind h
        refine hs_callV0 hC 23 [_] _ dX21_doUnary_116 q3651 q3653 qs297 q335 q3654 np_X21 rfl OB_23 pd_X21_done (Nat.le_of_ble_eq_true rfl) hd1 (okX21_done l E A (d - 1)  (by omega)  e23 am) rfl ?_
        obtain rfl := Option.some.inj h
        exact hr_sub _ rfl (J7)
      refine hr_icmp_ne (x := _) hC 83 dX21_doUnary_75 (by decide) (fun c28 => ?_) (fun c28 => ?_)
      · refine hr_iload hC dX21_doUnary_83 rfl ?_
        refine hr_bipush (v := 33) hC dX21_doUnary_85 rfl ?_
        refine hr_icmp_ne (x := _) hC 102 dX21_doUnary_87 (by decide) (fun c29 => ?_) (fun c29 => ?_)
        · refine hr_iload hC dX21_doUnary_102 rfl ?_
          refine hr_bipush (v := 126) hC dX21_doUnary_104 rfl ?_
          refine hr_icmp_ne (x := _) hC 115 dX21_doUnary_106 (by decide) (fun c30 => ?_) (fun c30 => ?_)
          · refine hr_iload_n hC dX21_doUnary_115 rfl ?_
            exact hr_sub _ rfl (J26 _ (by first | (rw [if_neg c28, if_neg c29, if_neg c30]; done) | (simp only [if_neg c28, if_neg c29, if_neg c30]; done) | rfl))
          · refine hr_iload_n hC dX21_doUnary_109 rfl ?_
            refine hr_iconst (v := (-1)) hC dX21_doUnary_110 rfl ?_
            refine hr_ixor hC dX21_doUnary_111 ?_
            refine hr_goto hC 116 dX21_doUnary_112 (by decide) ?_
            exact hr_sub _ rfl (J26 _ (by first | (rw [if_neg c28, if_neg c29, if_pos c30]; done) | (simp only [if_neg c28, if_neg c29, if_pos c30]; done) | rfl))
        · refine hr_iload_n hC dX21_doUnary_90 rfl ?_
          refine hr_if_ne (x := _) hC 98 dX21_doUnary_91 (by decide) (fun c31 => ?_) (fun c31 => ?_)
          · refine hr_iconst (v := 0) hC dX21_doUnary_98 rfl ?_
            refine hr_goto hC 116 dX21_doUnary_99 (by decide) ?_
            exact hr_sub _ rfl (J26 _ (by first | (rw [if_neg c28, if_pos c29, if_neg c31]; done) | (simp only [if_neg c28, if_pos c29, if_neg c31]; done) | rfl))
          · refine hr_iconst (v := 1) hC dX21_doUnary_94 rfl ?_
            refine hr_goto hC 116 dX21_doUnary_95 (by decide) ?_
            exact hr_sub _ rfl (J26 _ (by first | (rw [if_neg c28, if_pos c29, if_pos c31]; done) | (simp only [if_neg c28, if_pos c29, if_pos c31]; done) | rfl))
      · refine hr_iload_n hC dX21_doUnary_78 rfl ?_
        refine hr_ineg hC dX21_doUnary_79 ?_
        refine hr_goto hC 116 dX21_doUnary_80 (by decide) ?_
        exact hr_sub _ rfl (J26 _ (by first | (rw [if_pos c28]; done) | (simp only [if_pos c28]; done) | rfl))
    · rw [if_pos c10] at h
      refine hr_aload_n hC dX21_doUnary_29 rfl ?_
      refine hr_iconst (v := 1) hC dX21_doUnary_30 rfl ?_
      obtain ⟨r32, e33, h⟩ := hx_bind h
      refine hs_callV0 hC 23 [_] _ dX21_doUnary_31 q3611 q3613 qs287 q335 q3614 np_X21 rfl OB_23 pd_X21_state (Nat.le_of_ble_eq_true rfl) hd1 (okX21_state l E A (d - 1)  (by omega)  e33 am) rfl ?_
      refine hr_aload_n hC dX21_doUnary_34 rfl ?_
      refine hr_aload_n hC dX21_doUnary_35 rfl ?_
      refine hr_gA hC F23_21 rfl dX21_doUnary_36 q2863 ?_
      refine hr_iload_n hC dX21_doUnary_39 rfl ?_
      obtain ⟨c36, h⟩ := hk_ok h
      refine hs_iald hC A23_21 c36 dX21_doUnary_40 ?_
      obtain ⟨r37, e38, h⟩ := hx_bind h
      refine hs_callV0 hC 23 [_] _ dX21_doUnary_41 q3595 q3597 qs283 q335 q3598 np_X21 rfl OB_23 pd_X21_push (Nat.le_of_ble_eq_true rfl) hd1 (okX21_push l E A (d - 1)  (by omega)  e38 am) rfl ?_
      refine hr_goto hC 119 dX21_doUnary_44 (by decide) ?_
      obtain rfl := Option.some.inj h
      exact hr_sub _ rfl (J7)
  · rw [if_pos c4] at h
    refine hr_aload_n hC dX21_doUnary_15 rfl ?_
    refine hr_iload_n hC dX21_doUnary_16 rfl ?_
    refine hr_iload_n hC dX21_doUnary_17 rfl ?_
    refine hr_iconst (v := 1) hC dX21_doUnary_18 rfl ?_
    obtain ⟨r41, e42, h⟩ := hx_bind h
    refine hs_callV0 hC 23 [_, _, _] _ dX21_doUnary_19 q3695 q3697 qs308 q335 q3698 np_X21 rfl OB_23 pd_X21_doStep (Nat.le_of_ble_eq_true rfl) hd1 (okX21_doStep l E A (d - 1)  (by omega)  e42 am) rfl ?_
    refine hr_goto hC 119 dX21_doUnary_22 (by decide) ?_
    obtain rfl := Option.some.inj h
    exact hr_sub _ rfl (J7)
/-- HomeCompilerModel.doChain(II)V -/
def fm_X21_doChain  (x1 : Int32) (x2 : Int32) (σ : hc_St) : Option hc_St := if x2 = 0 then (hk (inb x1 (gL σ 23 21)) <| Option.bind (fm_X21_state ((((gC σ 23 21 x1)) + 1)) σ) fun r102 => hk (inb x1 (gL r102 23 21)) <| Option.bind (fm_X21_push ((gC r102 23 21 x1)) r102) fun r107 => some r107) else (hk (inb ((x2 - 1)) (gL σ 23 25)) <| hk (inb x1 (gL σ 23 26)) <| if 3 ≤ (gC σ 23 26 x1) then (hk (inb x1 (gL σ 23 21)) <| if (x2 - 1) = (gC σ 23 21 x1) then (Option.bind (fm_X21_state ((((gC σ 23 25 ((x2 - 1)))) + 1)) σ) fun r10 => Option.bind (fm_X21_push ((gC σ 23 25 ((x2 - 1)))) r10) fun r14 => some r14) else (Option.bind (fm_X21_take_2  σ) fun r18 => Option.bind (fm_X21_take_2  r18.2) fun r22 => hl (pI r22.2 23 51 0) fun σ26 => hk (inb ((x2 - 1)) (gL σ26 23 24)) <| Option.bind (fm_X21_two ((gC σ26 23 24 ((x2 - 1)))) r22.1 r18.1 σ26) fun r28 => if (gI r28.2 23 51) = 0 then (Option.bind (fm_X21_give r28.1 r28.2) fun r34 => if 0 ≤ (gC σ 23 25 ((x2 - 1))) then (Option.bind (fm_X21_state ((((gC σ 23 25 ((x2 - 1)))) + 1)) r34) fun r40 => Option.bind (fm_X21_push ((gC σ 23 25 ((x2 - 1)))) r40) fun r44 => some r44) else (hl (pI r34 23 69 ((((gI r34 23 69)) - 1))) fun σ48 => some σ48)) else (Option.bind (fm_X21_stop 3 r28.2) fun r49 => some r49))) else (Option.bind (fm_X21_take_2  σ) fun r53 => hl (α := Int32) ((if r53.1 = 0 then 0 else 1)) fun v59 => hl (α := Int32) ((if (gC σ 23 26 x1) = 1 then 1 else 0)) fun v62 => if v59 = v62 then (hl (α := Int32) ((if v59 = 0 then 0 else 1)) fun v67 => Option.bind (fm_X21_done v67 r53.2) fun r68 => some r68) else (if 0 ≤ (gC σ 23 25 ((x2 - 1))) then (Option.bind (fm_X21_state ((((gC σ 23 25 ((x2 - 1)))) + 1)) r53.2) fun r77 => Option.bind (fm_X21_push ((gC σ 23 25 ((x2 - 1)))) r77) fun r81 => some r81) else (hl (α := Int32) ((if v59 = 0 then 0 else 1)) fun v87 => Option.bind (fm_X21_done v87 r53.2) fun r88 => some r88))))
set_option maxRecDepth 20000 in
set_option maxHeartbeats 4000000 in
theorem okX21_doChain (l : Launch) (E : hc_E) (A : Nat → Prop) (d : Nat)  (hD : 10 ≤ d) {x1 : Int32} {x2 : Int32} {σ : hc_St} {r : hc_St} (h : fm_X21_doChain  x1 x2 σ = some r) (am : Nat → Nat → Nat) : hc_M l hc_V0 yX21_doChain (ws_ yX21_doChain cX21_doChain 9 none) d E A [.ref (E.2.1 23), .int x1, .int x2] am [] σ (.inl none) r := by
  have hd1 : 1 ≤ d := by omega
  have hd8 : 9 ≤ d := by omega
  refine hc_enter2 (own := RX21) [(0, .ref (E.2.1 23)), (1, .int x1), (2, .int x2)] pl_X21 rfl hc_V0_st hc_G0_nd rfl (Nat.le_of_ble_eq_true rfl) (fun X hC hem => ?_)
  unfold fm_X21_doChain at h
  refine hr_iload_n hC dX21_doChain_0 rfl ?_
  refine hr_if_ne (x := _) hC 27 dX21_doChain_1 (by decide) (fun c2 => ?_) (fun c2 => ?_)
  · rw [if_neg c2] at h
    refine hr_iload_n hC dX21_doChain_27 rfl ?_
    refine hr_iconst (v := 1) hC dX21_doChain_28 rfl ?_
    refine hr_isub hC dX21_doChain_29 ?_
    refine hr_istore_n hC dX21_doChain_30 (by decide) ?_
    refine hr_aload_n hC dX21_doChain_31 rfl ?_
    refine hr_gA hC F23_25 rfl dX21_doChain_32 q2867 ?_
    refine hr_iload_n hC dX21_doChain_35 rfl ?_
    obtain ⟨c3, h⟩ := hk_ok h
    refine hs_iald hC A23_25 c3 dX21_doChain_36 ?_
    refine hr_istore hC dX21_doChain_37 (by decide) ?_
    refine hr_aload_n hC dX21_doChain_39 rfl ?_
    refine hr_gA hC F23_26 rfl dX21_doChain_40 q2868 ?_
    refine hr_iload_n hC dX21_doChain_43 rfl ?_
    obtain ⟨c4, h⟩ := hk_ok h
    refine hs_iald hC A23_26 c4 dX21_doChain_44 ?_
    refine hr_istore hC dX21_doChain_45 (by decide) ?_
    refine hr_iload hC dX21_doChain_47 rfl ?_
    refine hr_iconst (v := 3) hC dX21_doChain_49 rfl ?_
    refine hr_icmp_ge (x := _) hC 106 dX21_doChain_50 (by decide) (fun c6 => ?_) (fun c6 => ?_)
    · rw [if_pos c6] at h
      refine hr_iload_n hC dX21_doChain_106 rfl ?_
      refine hr_aload_n hC dX21_doChain_107 rfl ?_
      refine hr_gA hC F23_21 rfl dX21_doChain_108 q2863 ?_
      refine hr_iload_n hC dX21_doChain_111 rfl ?_
      obtain ⟨c7, h⟩ := hk_ok h
      refine hs_iald hC A23_21 c7 dX21_doChain_112 ?_
      refine hr_icmp_eq (x := _) hC 184 dX21_doChain_113 (by decide) (fun c9 => ?_) (fun c9 => ?_)
      · rw [if_pos c9] at h
        refine hr_aload_n hC dX21_doChain_184 rfl ?_
        refine hr_iload hC dX21_doChain_185 rfl ?_
        refine hr_iconst (v := 1) hC dX21_doChain_187 rfl ?_
        refine hr_iadd hC dX21_doChain_188 ?_
        obtain ⟨r10, e11, h⟩ := hx_bind h
        refine hs_callV0 hC 23 [_] _ dX21_doChain_189 q3611 q3613 qs287 q335 q3614 np_X21 rfl OB_23 pd_X21_state (Nat.le_of_ble_eq_true rfl) hd1 (okX21_state l E A (d - 1)  (by omega)  e11 am) rfl ?_
        refine hr_aload_n hC dX21_doChain_192 rfl ?_
        refine hr_iload hC dX21_doChain_193 rfl ?_
        obtain ⟨r14, e15, h⟩ := hx_bind h
        refine hs_callV0 hC 23 [_] _ dX21_doChain_195 q3595 q3597 qs283 q335 q3598 np_X21 rfl OB_23 pd_X21_push (Nat.le_of_ble_eq_true rfl) hd1 (okX21_push l E A (d - 1)  (by omega)  e15 am) rfl ?_
        obtain rfl := Option.some.inj h
        exact hr_vret hC dX21_doChain_198
      · rw [if_neg c9] at h
        refine hr_aload_n hC dX21_doChain_116 rfl ?_
        obtain ⟨r18, e19, h⟩ := hx_bind h
        refine hs_callV0 hC 23 [] _ dX21_doChain_117 q3615 q3617 qs288 q335 q3618 np_X21 rfl OB_23 pd_X21_take_2 (Nat.le_of_ble_eq_true rfl) hd1 (okX21_take_2 l E A (d - 1)  (by omega)  e19 am) rfl ?_
        refine hr_istore hC dX21_doChain_120 (by decide) ?_
        refine hr_aload_n hC dX21_doChain_122 rfl ?_
        obtain ⟨r22, e23, h⟩ := hx_bind h
        refine hs_callV0 hC 23 [] _ dX21_doChain_123 q3615 q3617 qs288 q335 q3618 np_X21 rfl OB_23 pd_X21_take_2 (Nat.le_of_ble_eq_true rfl) hd1 (okX21_take_2 l E A (d - 1)  (by omega)  e23 am) rfl ?_
        refine hr_istore hC dX21_doChain_126 (by decide) ?_
        refine hr_aload_n hC dX21_doChain_128 rfl ?_
        refine hr_iconst (v := 0) hC dX21_doChain_129 rfl ?_
        obtain ⟨σ26, hσ26, h⟩ := hl_ok h
        refine hr_pZ hC F23_51 PX21_51 (by decide) dX21_doChain_130 q2892 ?_
        rw [← hσ26]
        refine hr_aload_n hC dX21_doChain_133 rfl ?_
        refine hr_aload_n hC dX21_doChain_134 rfl ?_
        refine hr_gA hC F23_24 rfl dX21_doChain_135 q2866 ?_
        refine hr_iload_n hC dX21_doChain_138 rfl ?_
        obtain ⟨c27, h⟩ := hk_ok h
        refine hs_iald hC A23_24 c27 dX21_doChain_139 ?_
        refine hr_iload hC dX21_doChain_140 rfl ?_
        refine hr_iload hC dX21_doChain_142 rfl ?_
        obtain ⟨r28, e29, h⟩ := hx_bind h
        refine hs_callV0 hC 23 [_, _, _] _ dX21_doChain_144 q3482 q3484 qs257 q335 q3485 np_X21 rfl OB_23 pd_X21_two (Nat.le_of_ble_eq_true rfl) hd1 (okX21_two l E A (d - 1)  (by omega)  e29 am) rfl ?_
        refine hr_istore hC dX21_doChain_147 (by decide) ?_
        refine hr_aload_n hC dX21_doChain_149 rfl ?_
        refine hr_gI hC F23_51 dX21_doChain_150 q2892 ?_
        refine hr_if_eq (x := _) hC 162 dX21_doChain_153 (by decide) (fun c33 => ?_) (fun c33 => ?_)
        · rw [if_pos c33] at h
          refine hr_aload_n hC dX21_doChain_162 rfl ?_
          refine hr_iload hC dX21_doChain_163 rfl ?_
          obtain ⟨r34, e35, h⟩ := hx_bind h
          refine hs_callV0 hC 23 [_] _ dX21_doChain_165 q3571 q3573 qs277 q335 q3574 np_X21 rfl OB_23 pd_X21_give (Nat.le_of_ble_eq_true rfl) hd1 (okX21_give l E A (d - 1)  (by omega)  e35 am) rfl ?_
          refine hr_iload hC dX21_doChain_168 rfl ?_
          refine hr_if_ge (x := _) hC 184 dX21_doChain_170 (by decide) (fun c39 => ?_) (fun c39 => ?_)
          · rw [if_pos c39] at h
            refine hr_aload_n hC dX21_doChain_184 rfl ?_
            refine hr_iload hC dX21_doChain_185 rfl ?_
            refine hr_iconst (v := 1) hC dX21_doChain_187 rfl ?_
            refine hr_iadd hC dX21_doChain_188 ?_
            obtain ⟨r40, e41, h⟩ := hx_bind h
            refine hs_callV0 hC 23 [_] _ dX21_doChain_189 q3611 q3613 qs287 q335 q3614 np_X21 rfl OB_23 pd_X21_state (Nat.le_of_ble_eq_true rfl) hd1 (okX21_state l E A (d - 1)  (by omega)  e41 am) rfl ?_
            refine hr_aload_n hC dX21_doChain_192 rfl ?_
            refine hr_iload hC dX21_doChain_193 rfl ?_
            obtain ⟨r44, e45, h⟩ := hx_bind h
            refine hs_callV0 hC 23 [_] _ dX21_doChain_195 q3595 q3597 qs283 q335 q3598 np_X21 rfl OB_23 pd_X21_push (Nat.le_of_ble_eq_true rfl) hd1 (okX21_push l E A (d - 1)  (by omega)  e45 am) rfl ?_
            obtain rfl := Option.some.inj h
            exact hr_vret hC dX21_doChain_198
          · rw [if_neg c39] at h
            refine hr_aload_n hC dX21_doChain_173 rfl ?_
            refine hr_dup hC dX21_doChain_174 rfl ?_
            refine hr_gI hC F23_69 dX21_doChain_175 q2910 ?_
            refine hr_iconst (v := 1) hC dX21_doChain_178 rfl ?_
            refine hr_isub hC dX21_doChain_179 ?_
            obtain ⟨σ48, hσ48, h⟩ := hl_ok h
            refine hr_pI hC F23_69 PX21_69 dX21_doChain_180 q2910 ?_
            rw [← hσ48]
            obtain rfl := Option.some.inj h
            exact hr_vret hC dX21_doChain_183
        · rw [if_neg c33] at h
          refine hr_aload_n hC dX21_doChain_156 rfl ?_
          refine hr_iconst (v := 3) hC dX21_doChain_157 rfl ?_
          obtain ⟨r49, e50, h⟩ := hx_bind h
          refine hs_callV0 hC 23 [_] _ dX21_doChain_158 q3587 q3589 qs281 q335 q3590 np_X21 rfl OB_23 pd_X21_stop (Nat.le_of_ble_eq_true rfl) hd1 (okX21_stop l E A (d - 1)  (by omega)  e50 am) rfl ?_
          obtain rfl := Option.some.inj h
          exact hr_vret hC dX21_doChain_161
    · rw [if_neg c6] at h
      refine hr_aload_n hC dX21_doChain_53 rfl ?_
      obtain ⟨r53, e54, h⟩ := hx_bind h
      refine hs_callV0 hC 23 [] _ dX21_doChain_54 q3615 q3617 qs288 q335 q3618 np_X21 rfl OB_23 pd_X21_take_2 (Nat.le_of_ble_eq_true rfl) hd1 (okX21_take_2 l E A (d - 1)  (by omega)  e54 am) rfl ?_
      obtain ⟨v59, hv59, h⟩ := hl_ok h
      have J98 : ∀ w99 : Int32, (if r53.1 = 0 then 0 else 1) = w99 → hc_At hc_V0 E 9 X 65 [(0, .ref (E.2.1 23)), (4, .int (gC σ 23 25 ((x2 - 1)))), (5, .int (gC σ 23 26 x1))] [.int w99] r53.2 am [] := by
        intro w99 hw99
        obtain rfl := hv59.trans hw99
        refine hr_istore hC dX21_doChain_65 (by decide) ?_
        refine hr_iload hC dX21_doChain_67 rfl ?_
        refine hr_iload hC dX21_doChain_69 rfl ?_
        refine hr_iconst (v := 1) hC dX21_doChain_71 rfl ?_
        obtain ⟨v62, hv62, h⟩ := hl_ok h
        have J95 : ∀ w96 : Int32, (if (gC σ 23 26 x1) = 1 then 1 else 0) = w96 → hc_At hc_V0 E 9 X 80 [(0, .ref (E.2.1 23)), (4, .int (gC σ 23 25 ((x2 - 1)))), (6, .int v59)] [.int w96, .int v59] r53.2 am [] := by
          intro w96 hw96
          obtain rfl := hv62.trans hw96
          refine hr_icmp_eq (x := _) hC 88 dX21_doChain_80 (by decide) (fun c64 => ?_) (fun c64 => ?_)
          · rw [if_pos c64] at h
            refine hr_aload_n hC dX21_doChain_88 rfl ?_
            refine hr_iload hC dX21_doChain_89 rfl ?_
            obtain ⟨v67, hv67, h⟩ := hl_ok h
            have J72 : ∀ w73 : Int32, (if v59 = 0 then 0 else 1) = w73 → hc_At hc_V0 E 9 X 99 [] [.int w73, .ref (E.2.1 23)] r53.2 am [] := by
              intro w73 hw73
              obtain rfl := hv67.trans hw73
              obtain ⟨r68, e69, h⟩ := hx_bind h
              refine hs_callV0 hC 23 [_] _ dX21_doChain_99 q3651 q3653 qs297 q335 q3654 np_X21 rfl OB_23 pd_X21_done (Nat.le_of_ble_eq_true rfl) hd1 (okX21_done l E A (d - 1)  (by omega)  e69 am) rfl ?_
              obtain rfl := Option.some.inj h
              exact hr_vret hC dX21_doChain_102
            refine hr_if_eq (x := _) hC 98 dX21_doChain_91 (by decide) (fun c74 => ?_) (fun c74 => ?_)
            · refine hr_iconst (v := 0) hC dX21_doChain_98 rfl ?_
              exact hr_sub _ rfl (J72 _ (by first | (rw [if_pos c74]; done) | (simp only [if_pos c74]; done) | rfl))
            · refine hr_iconst (v := 1) hC dX21_doChain_94 rfl ?_
              refine hr_goto hC 99 dX21_doChain_95 (by decide) ?_
              exact hr_sub _ rfl (J72 _ (by first | (rw [if_neg c74]; done) | (simp only [if_neg c74]; done) | rfl))
          · rw [if_neg c64] at h
            refine hr_iload hC dX21_doChain_83 rfl ?_
            refine hr_if_ge (x := _) hC 103 dX21_doChain_85 (by decide) (fun c76 => ?_) (fun c76 => ?_)
            · rw [if_pos c76] at h
              refine hr_goto hC 184 dX21_doChain_103 (by decide) ?_
              refine hr_aload_n hC dX21_doChain_184 rfl ?_
              refine hr_iload hC dX21_doChain_185 rfl ?_
              refine hr_iconst (v := 1) hC dX21_doChain_187 rfl ?_
              refine hr_iadd hC dX21_doChain_188 ?_
              obtain ⟨r77, e78, h⟩ := hx_bind h
              refine hs_callV0 hC 23 [_] _ dX21_doChain_189 q3611 q3613 qs287 q335 q3614 np_X21 rfl OB_23 pd_X21_state (Nat.le_of_ble_eq_true rfl) hd1 (okX21_state l E A (d - 1)  (by omega)  e78 am) rfl ?_
              refine hr_aload_n hC dX21_doChain_192 rfl ?_
              refine hr_iload hC dX21_doChain_193 rfl ?_
              obtain ⟨r81, e82, h⟩ := hx_bind h
              refine hs_callV0 hC 23 [_] _ dX21_doChain_195 q3595 q3597 qs283 q335 q3598 np_X21 rfl OB_23 pd_X21_push (Nat.le_of_ble_eq_true rfl) hd1 (okX21_push l E A (d - 1)  (by omega)  e82 am) rfl ?_
              obtain rfl := Option.some.inj h
              exact hr_vret hC dX21_doChain_198
            · rw [if_neg c76] at h
              refine hr_aload_n hC dX21_doChain_88 rfl ?_
              refine hr_iload hC dX21_doChain_89 rfl ?_
              obtain ⟨v87, hv87, h⟩ := hl_ok h
              have J92 : ∀ w93 : Int32, (if v59 = 0 then 0 else 1) = w93 → hc_At hc_V0 E 9 X 99 [] [.int w93, .ref (E.2.1 23)] r53.2 am [] := by
                intro w93 hw93
                obtain rfl := hv87.trans hw93
                obtain ⟨r88, e89, h⟩ := hx_bind h
                refine hs_callV0 hC 23 [_] _ dX21_doChain_99 q3651 q3653 qs297 q335 q3654 np_X21 rfl OB_23 pd_X21_done (Nat.le_of_ble_eq_true rfl) hd1 (okX21_done l E A (d - 1)  (by omega)  e89 am) rfl ?_
                obtain rfl := Option.some.inj h
                exact hr_vret hC dX21_doChain_102
              refine hr_if_eq (x := _) hC 98 dX21_doChain_91 (by decide) (fun c94 => ?_) (fun c94 => ?_)
              · refine hr_iconst (v := 0) hC dX21_doChain_98 rfl ?_
                exact hr_sub _ rfl (J92 _ (by first | (rw [if_pos c94]; done) | (simp only [if_pos c94]; done) | rfl))
              · refine hr_iconst (v := 1) hC dX21_doChain_94 rfl ?_
                refine hr_goto hC 99 dX21_doChain_95 (by decide) ?_
                exact hr_sub _ rfl (J92 _ (by first | (rw [if_neg c94]; done) | (simp only [if_neg c94]; done) | rfl))
        refine hr_icmp_ne (x := _) hC 79 dX21_doChain_72 (by decide) (fun c97 => ?_) (fun c97 => ?_)
        · refine hr_iconst (v := 0) hC dX21_doChain_79 rfl ?_
          exact hr_sub _ rfl (J95 _ (by first | (rw [if_neg c97]; done) | (simp only [if_neg c97]; done) | rfl))
        · refine hr_iconst (v := 1) hC dX21_doChain_75 rfl ?_
          refine hr_goto hC 80 dX21_doChain_76 (by decide) ?_
          exact hr_sub _ rfl (J95 _ (by first | (rw [if_pos c97]; done) | (simp only [if_pos c97]; done) | rfl))
      refine hr_if_eq (x := _) hC 64 dX21_doChain_57 (by decide) (fun c100 => ?_) (fun c100 => ?_)
      · refine hr_iconst (v := 0) hC dX21_doChain_64 rfl ?_
        exact hr_sub _ rfl (J98 _ (by first | (rw [if_pos c100]; done) | (simp only [if_pos c100]; done) | rfl))
      · refine hr_iconst (v := 1) hC dX21_doChain_60 rfl ?_
        refine hr_goto hC 65 dX21_doChain_61 (by decide) ?_
        exact hr_sub _ rfl (J98 _ (by first | (rw [if_neg c100]; done) | (simp only [if_neg c100]; done) | rfl))
  · rw [if_pos c2] at h
    refine hr_aload_n hC dX21_doChain_4 rfl ?_
    refine hr_aload_n hC dX21_doChain_5 rfl ?_
    refine hr_gA hC F23_21 rfl dX21_doChain_6 q2863 ?_
    refine hr_iload_n hC dX21_doChain_9 rfl ?_
    obtain ⟨c101, h⟩ := hk_ok h
    refine hs_iald hC A23_21 c101 dX21_doChain_10 ?_
    refine hr_iconst (v := 1) hC dX21_doChain_11 rfl ?_
    refine hr_iadd hC dX21_doChain_12 ?_
    obtain ⟨r102, e103, h⟩ := hx_bind h
    refine hs_callV0 hC 23 [_] _ dX21_doChain_13 q3611 q3613 qs287 q335 q3614 np_X21 rfl OB_23 pd_X21_state (Nat.le_of_ble_eq_true rfl) hd1 (okX21_state l E A (d - 1)  (by omega)  e103 am) rfl ?_
    refine hr_aload_n hC dX21_doChain_16 rfl ?_
    refine hr_aload_n hC dX21_doChain_17 rfl ?_
    refine hr_gA hC F23_21 rfl dX21_doChain_18 q2863 ?_
    refine hr_iload_n hC dX21_doChain_21 rfl ?_
    obtain ⟨c106, h⟩ := hk_ok h
    refine hs_iald hC A23_21 c106 dX21_doChain_22 ?_
    obtain ⟨r107, e108, h⟩ := hx_bind h
    refine hs_callV0 hC 23 [_] _ dX21_doChain_23 q3595 q3597 qs283 q335 q3598 np_X21 rfl OB_23 pd_X21_push (Nat.le_of_ble_eq_true rfl) hd1 (okX21_push l E A (d - 1)  (by omega)  e108 am) rfl ?_
    obtain rfl := Option.some.inj h
    exact hr_vret hC dX21_doChain_26
/-- HomeCompilerModel.combined(III)I -/
def fm_X21_combined  (x1 : Int32) (x2 : Int32) (x3 : Int32) (σ : hc_St) : Option (Int32 × hc_St) := hk (inb x1 (gL σ 23 14)) <| hk (inb ((gC σ 23 14 x1)) (gL σ 23 1)) <| hk (hsc ((gC σ 23 1 ((gC σ 23 14 x1)))) 0) <| hk (hsi ((gC σ 23 1 ((gC σ 23 14 x1))))) <| if (sLen ((gC σ 23 1 ((gC σ 23 14 x1))))) = 3 then (hl (α := Int32) ((if (sCh ((gC σ 23 1 ((gC σ 23 14 x1)))) 0) = 60 then (jshl x2 x3) else (jshr x2 x3))) fun v85 => some (v85, σ)) else (if (sCh ((gC σ 23 1 ((gC σ 23 14 x1)))) 0) = 47 then (if x3 = 0 then (Option.bind (fm_X21_stop 3 σ) fun r31 => some (0, r31)) else (Option.bind (α := Int32) (if (sCh ((gC σ 23 1 ((gC σ 23 14 x1)))) 0) = 43 then (some ((x2 + x3))) else (if (sCh ((gC σ 23 1 ((gC σ 23 14 x1)))) 0) = 45 then (some ((x2 - x3))) else (if (sCh ((gC σ 23 1 ((gC σ 23 14 x1)))) 0) = 42 then (some ((x2 * x3))) else (if (sCh ((gC σ 23 1 ((gC σ 23 14 x1)))) 0) = 47 then (hk (decide (¬ x3 = 0)) <| some ((x2 / x3))) else (if (sCh ((gC σ 23 1 ((gC σ 23 14 x1)))) 0) = 37 then (hk (decide (¬ x3 = 0)) <| some ((jrem x2 x3))) else (if (sCh ((gC σ 23 1 ((gC σ 23 14 x1)))) 0) = 38 then (some ((x2 &&& x3))) else (if (sCh ((gC σ 23 1 ((gC σ 23 14 x1)))) 0) = 124 then (some ((x2 ||| x3))) else (some ((x2 ^^^ x3)))))))))) fun r13 => some (r13, σ))) else (if (sCh ((gC σ 23 1 ((gC σ 23 14 x1)))) 0) = 37 then (if x3 = 0 then (Option.bind (fm_X21_stop 3 σ) fun r79 => some (0, r79)) else (Option.bind (α := Int32) (if (sCh ((gC σ 23 1 ((gC σ 23 14 x1)))) 0) = 43 then (some ((x2 + x3))) else (if (sCh ((gC σ 23 1 ((gC σ 23 14 x1)))) 0) = 45 then (some ((x2 - x3))) else (if (sCh ((gC σ 23 1 ((gC σ 23 14 x1)))) 0) = 42 then (some ((x2 * x3))) else (if (sCh ((gC σ 23 1 ((gC σ 23 14 x1)))) 0) = 47 then (hk (decide (¬ x3 = 0)) <| some ((x2 / x3))) else (if (sCh ((gC σ 23 1 ((gC σ 23 14 x1)))) 0) = 37 then (hk (decide (¬ x3 = 0)) <| some ((jrem x2 x3))) else (if (sCh ((gC σ 23 1 ((gC σ 23 14 x1)))) 0) = 38 then (some ((x2 &&& x3))) else (if (sCh ((gC σ 23 1 ((gC σ 23 14 x1)))) 0) = 124 then (some ((x2 ||| x3))) else (some ((x2 ^^^ x3)))))))))) fun r61 => some (r61, σ))) else (Option.bind (α := Int32) (if (sCh ((gC σ 23 1 ((gC σ 23 14 x1)))) 0) = 43 then (some ((x2 + x3))) else (if (sCh ((gC σ 23 1 ((gC σ 23 14 x1)))) 0) = 45 then (some ((x2 - x3))) else (if (sCh ((gC σ 23 1 ((gC σ 23 14 x1)))) 0) = 42 then (some ((x2 * x3))) else (if (sCh ((gC σ 23 1 ((gC σ 23 14 x1)))) 0) = 47 then (hk (decide (¬ x3 = 0)) <| some ((x2 / x3))) else (if (sCh ((gC σ 23 1 ((gC σ 23 14 x1)))) 0) = 37 then (hk (decide (¬ x3 = 0)) <| some ((jrem x2 x3))) else (if (sCh ((gC σ 23 1 ((gC σ 23 14 x1)))) 0) = 38 then (some ((x2 &&& x3))) else (if (sCh ((gC σ 23 1 ((gC σ 23 14 x1)))) 0) = 124 then (some ((x2 ||| x3))) else (some ((x2 ^^^ x3)))))))))) fun r39 => some (r39, σ))))
set_option maxRecDepth 20000 in
set_option maxHeartbeats 4000000 in
theorem okX21_combined (l : Launch) (E : hc_E) (A : Nat → Prop) (d : Nat)  (hD : 9 ≤ d) {x1 : Int32} {x2 : Int32} {x3 : Int32} {σ : hc_St} {r : (Int32 × hc_St)} (h : fm_X21_combined  x1 x2 x3 σ = some r) (am : Nat → Nat → Nat) : hc_M l hc_V0 yX21_combined (ws_ yX21_combined cX21_combined 6 (some .int)) d E A [.ref (E.2.1 23), .int x1, .int x2, .int x3] am [] σ (.inl (some (.int r.1))) r.2 := by
  have hd1 : 1 ≤ d := by omega
  have hd8 : 9 ≤ d := by omega
  refine hc_enter2 (own := RX21) [(0, .ref (E.2.1 23)), (1, .int x1), (2, .int x2), (3, .int x3)] pl_X21 rfl hc_V0_st hc_G0_nd rfl (Nat.le_of_ble_eq_true rfl) (fun X hC hem => ?_)
  unfold fm_X21_combined at h
  refine hr_aload_n hC dX21_combined_0 rfl ?_
  refine hr_gA hC F23_1 rfl dX21_combined_1 q2843 ?_
  refine hr_aload_n hC dX21_combined_4 rfl ?_
  refine hr_gA hC F23_14 rfl dX21_combined_5 q2856 ?_
  refine hr_iload_n hC dX21_combined_8 rfl ?_
  obtain ⟨c1, h⟩ := hk_ok h
  refine hs_iald hC A23_14 c1 dX21_combined_9 ?_
  obtain ⟨c2, h⟩ := hk_ok h
  refine hs_sald hC A23_1 c2 dX21_combined_10 ?_
  refine hr_astore hC dX21_combined_11 (by decide) ?_
  refine hr_aload hC dX21_combined_13 rfl ?_
  refine hr_iconst (v := 0) hC dX21_combined_15 rfl ?_
  obtain ⟨c3, h⟩ := hk_ok h
  refine hr_schar hC c3 dX21_combined_16 q3150 hd8 (Nat.le_of_ble_eq_true rfl) ?_
  refine hr_istore hC dX21_combined_19 (by decide) ?_
  refine hr_aload hC dX21_combined_21 rfl ?_
  obtain ⟨c4, h⟩ := hk_ok h
  refine hr_slen hC c4 dX21_combined_23 q3145 hd8 (Nat.le_of_ble_eq_true rfl) ?_
  refine hr_iconst (v := 3) hC dX21_combined_26 rfl ?_
  refine hr_icmp_ne (x := _) hC 47 dX21_combined_27 (by decide) (fun c6 => ?_) (fun c6 => ?_)
  · rw [if_neg c6] at h
    refine hr_iload hC dX21_combined_47 rfl ?_
    refine hr_bipush (v := 47) hC dX21_combined_49 rfl ?_
    refine hr_icmp_eq (x := _) hC 61 dX21_combined_51 (by decide) (fun c8 => ?_) (fun c8 => ?_)
    · rw [if_pos c8] at h
      refine hr_iload_n hC dX21_combined_61 rfl ?_
      refine hr_if_ne (x := _) hC 72 dX21_combined_62 (by decide) (fun c10 => ?_) (fun c10 => ?_)
      · rw [if_neg c10] at h
        refine hr_iload hC dX21_combined_72 rfl ?_
        refine hr_bipush (v := 43) hC dX21_combined_74 rfl ?_
        obtain ⟨r13, e14, h⟩ := hx_bind h
        have J15 : hc_At hc_V0 E 6 X 166 [] [.int r13] σ am [] := by
          obtain rfl := Option.some.inj h
          exact hr_iret hC dX21_combined_166
        clear h
        have h := e14
        refine hr_icmp_ne (x := _) hC 85 dX21_combined_76 (by decide) (fun c12 => ?_) (fun c12 => ?_)
        · rw [if_neg c12] at h
          refine hr_iload hC dX21_combined_85 rfl ?_
          refine hr_bipush (v := 45) hC dX21_combined_87 rfl ?_
          refine hr_icmp_ne (x := _) hC 98 dX21_combined_89 (by decide) (fun c18 => ?_) (fun c18 => ?_)
          · rw [if_neg c18] at h
            refine hr_iload hC dX21_combined_98 rfl ?_
            refine hr_bipush (v := 42) hC dX21_combined_100 rfl ?_
            refine hr_icmp_ne (x := _) hC 111 dX21_combined_102 (by decide) (fun c20 => ?_) (fun c20 => ?_)
            · rw [if_neg c20] at h
              refine hr_iload hC dX21_combined_111 rfl ?_
              refine hr_bipush (v := 47) hC dX21_combined_113 rfl ?_
              refine hr_icmp_ne (x := _) hC 124 dX21_combined_115 (by decide) (fun c22 => ?_) (fun c22 => ?_)
              · rw [if_neg c22] at h
                refine hr_iload hC dX21_combined_124 rfl ?_
                refine hr_bipush (v := 37) hC dX21_combined_126 rfl ?_
                refine hr_icmp_ne (x := _) hC 137 dX21_combined_128 (by decide) (fun c24 => ?_) (fun c24 => ?_)
                · rw [if_neg c24] at h
                  refine hr_iload hC dX21_combined_137 rfl ?_
                  refine hr_bipush (v := 38) hC dX21_combined_139 rfl ?_
                  refine hr_icmp_ne (x := _) hC 150 dX21_combined_141 (by decide) (fun c26 => ?_) (fun c26 => ?_)
                  · rw [if_neg c26] at h
                    refine hr_iload hC dX21_combined_150 rfl ?_
                    refine hr_bipush (v := 124) hC dX21_combined_152 rfl ?_
                    refine hr_icmp_ne (x := _) hC 163 dX21_combined_154 (by decide) (fun c28 => ?_) (fun c28 => ?_)
                    · rw [if_neg c28] at h
                      refine hr_iload_n hC dX21_combined_163 rfl ?_
                      refine hr_iload_n hC dX21_combined_164 rfl ?_
                      refine hr_ixor hC dX21_combined_165 ?_
                      obtain rfl := Option.some.inj h
                      exact hr_sub _ rfl (J15)
                    · rw [if_pos c28] at h
                      refine hr_iload_n hC dX21_combined_157 rfl ?_
                      refine hr_iload_n hC dX21_combined_158 rfl ?_
                      refine hr_ior hC dX21_combined_159 ?_
                      refine hr_goto hC 166 dX21_combined_160 (by decide) ?_
                      obtain rfl := Option.some.inj h
                      exact hr_sub _ rfl (J15)
                  · rw [if_pos c26] at h
                    refine hr_iload_n hC dX21_combined_144 rfl ?_
                    refine hr_iload_n hC dX21_combined_145 rfl ?_
                    refine hr_iand hC dX21_combined_146 ?_
                    refine hr_goto hC 166 dX21_combined_147 (by decide) ?_
                    obtain rfl := Option.some.inj h
                    exact hr_sub _ rfl (J15)
                · rw [if_pos c24] at h
                  refine hr_iload_n hC dX21_combined_131 rfl ?_
                  refine hr_iload_n hC dX21_combined_132 rfl ?_
                  obtain ⟨c29, h⟩ := hk_ok h
                  refine hr_irem hC dX21_combined_133 (of_decide_eq_true c29) ?_
                  refine hr_goto hC 166 dX21_combined_134 (by decide) ?_
                  obtain rfl := Option.some.inj h
                  exact hr_sub _ rfl (J15)
              · rw [if_pos c22] at h
                refine hr_iload_n hC dX21_combined_118 rfl ?_
                refine hr_iload_n hC dX21_combined_119 rfl ?_
                obtain ⟨c30, h⟩ := hk_ok h
                refine hr_idiv hC dX21_combined_120 (of_decide_eq_true c30) ?_
                refine hr_goto hC 166 dX21_combined_121 (by decide) ?_
                obtain rfl := Option.some.inj h
                exact hr_sub _ rfl (J15)
            · rw [if_pos c20] at h
              refine hr_iload_n hC dX21_combined_105 rfl ?_
              refine hr_iload_n hC dX21_combined_106 rfl ?_
              refine hr_imul hC dX21_combined_107 ?_
              refine hr_goto hC 166 dX21_combined_108 (by decide) ?_
              obtain rfl := Option.some.inj h
              exact hr_sub _ rfl (J15)
          · rw [if_pos c18] at h
            refine hr_iload_n hC dX21_combined_92 rfl ?_
            refine hr_iload_n hC dX21_combined_93 rfl ?_
            refine hr_isub hC dX21_combined_94 ?_
            refine hr_goto hC 166 dX21_combined_95 (by decide) ?_
            obtain rfl := Option.some.inj h
            exact hr_sub _ rfl (J15)
        · rw [if_pos c12] at h
          refine hr_iload_n hC dX21_combined_79 rfl ?_
          refine hr_iload_n hC dX21_combined_80 rfl ?_
          refine hr_iadd hC dX21_combined_81 ?_
          refine hr_goto hC 166 dX21_combined_82 (by decide) ?_
          obtain rfl := Option.some.inj h
          exact hr_sub _ rfl (J15)
      · rw [if_pos c10] at h
        refine hr_aload_n hC dX21_combined_65 rfl ?_
        refine hr_iconst (v := 3) hC dX21_combined_66 rfl ?_
        obtain ⟨r31, e32, h⟩ := hx_bind h
        refine hs_callV0 hC 23 [_] _ dX21_combined_67 q3587 q3589 qs281 q335 q3590 np_X21 rfl OB_23 pd_X21_stop (Nat.le_of_ble_eq_true rfl) hd1 (okX21_stop l E A (d - 1)  (by omega)  e32 am) rfl ?_
        refine hr_iconst (v := 0) hC dX21_combined_70 rfl ?_
        obtain rfl := Option.some.inj h
        exact hr_iret hC dX21_combined_71
    · rw [if_neg c8] at h
      refine hr_iload hC dX21_combined_54 rfl ?_
      refine hr_bipush (v := 37) hC dX21_combined_56 rfl ?_
      refine hr_icmp_ne (x := _) hC 72 dX21_combined_58 (by decide) (fun c36 => ?_) (fun c36 => ?_)
      · rw [if_neg c36] at h
        refine hr_iload hC dX21_combined_72 rfl ?_
        refine hr_bipush (v := 43) hC dX21_combined_74 rfl ?_
        obtain ⟨r39, e40, h⟩ := hx_bind h
        have J41 : hc_At hc_V0 E 6 X 166 [] [.int r39] σ am [] := by
          obtain rfl := Option.some.inj h
          exact hr_iret hC dX21_combined_166
        clear h
        have h := e40
        refine hr_icmp_ne (x := _) hC 85 dX21_combined_76 (by decide) (fun c38 => ?_) (fun c38 => ?_)
        · rw [if_neg c38] at h
          refine hr_iload hC dX21_combined_85 rfl ?_
          refine hr_bipush (v := 45) hC dX21_combined_87 rfl ?_
          refine hr_icmp_ne (x := _) hC 98 dX21_combined_89 (by decide) (fun c44 => ?_) (fun c44 => ?_)
          · rw [if_neg c44] at h
            refine hr_iload hC dX21_combined_98 rfl ?_
            refine hr_bipush (v := 42) hC dX21_combined_100 rfl ?_
            refine hr_icmp_ne (x := _) hC 111 dX21_combined_102 (by decide) (fun c46 => ?_) (fun c46 => ?_)
            · rw [if_neg c46] at h
              refine hr_iload hC dX21_combined_111 rfl ?_
              refine hr_bipush (v := 47) hC dX21_combined_113 rfl ?_
              refine hr_icmp_ne (x := _) hC 124 dX21_combined_115 (by decide) (fun c48 => ?_) (fun c48 => ?_)
              · rw [if_neg c48] at h
                refine hr_iload hC dX21_combined_124 rfl ?_
                refine hr_bipush (v := 37) hC dX21_combined_126 rfl ?_
                refine hr_icmp_ne (x := _) hC 137 dX21_combined_128 (by decide) (fun c50 => ?_) (fun c50 => ?_)
                · rw [if_neg c50] at h
                  refine hr_iload hC dX21_combined_137 rfl ?_
                  refine hr_bipush (v := 38) hC dX21_combined_139 rfl ?_
                  refine hr_icmp_ne (x := _) hC 150 dX21_combined_141 (by decide) (fun c52 => ?_) (fun c52 => ?_)
                  · rw [if_neg c52] at h
                    refine hr_iload hC dX21_combined_150 rfl ?_
                    refine hr_bipush (v := 124) hC dX21_combined_152 rfl ?_
                    refine hr_icmp_ne (x := _) hC 163 dX21_combined_154 (by decide) (fun c54 => ?_) (fun c54 => ?_)
                    · rw [if_neg c54] at h
                      refine hr_iload_n hC dX21_combined_163 rfl ?_
                      refine hr_iload_n hC dX21_combined_164 rfl ?_
                      refine hr_ixor hC dX21_combined_165 ?_
                      obtain rfl := Option.some.inj h
                      exact hr_sub _ rfl (J41)
                    · rw [if_pos c54] at h
                      refine hr_iload_n hC dX21_combined_157 rfl ?_
                      refine hr_iload_n hC dX21_combined_158 rfl ?_
                      refine hr_ior hC dX21_combined_159 ?_
                      refine hr_goto hC 166 dX21_combined_160 (by decide) ?_
                      obtain rfl := Option.some.inj h
                      exact hr_sub _ rfl (J41)
                  · rw [if_pos c52] at h
                    refine hr_iload_n hC dX21_combined_144 rfl ?_
                    refine hr_iload_n hC dX21_combined_145 rfl ?_
                    refine hr_iand hC dX21_combined_146 ?_
                    refine hr_goto hC 166 dX21_combined_147 (by decide) ?_
                    obtain rfl := Option.some.inj h
                    exact hr_sub _ rfl (J41)
                · rw [if_pos c50] at h
                  refine hr_iload_n hC dX21_combined_131 rfl ?_
                  refine hr_iload_n hC dX21_combined_132 rfl ?_
                  obtain ⟨c55, h⟩ := hk_ok h
                  refine hr_irem hC dX21_combined_133 (of_decide_eq_true c55) ?_
                  refine hr_goto hC 166 dX21_combined_134 (by decide) ?_
                  obtain rfl := Option.some.inj h
                  exact hr_sub _ rfl (J41)
              · rw [if_pos c48] at h
                refine hr_iload_n hC dX21_combined_118 rfl ?_
                refine hr_iload_n hC dX21_combined_119 rfl ?_
                obtain ⟨c56, h⟩ := hk_ok h
                refine hr_idiv hC dX21_combined_120 (of_decide_eq_true c56) ?_
                refine hr_goto hC 166 dX21_combined_121 (by decide) ?_
                obtain rfl := Option.some.inj h
                exact hr_sub _ rfl (J41)
            · rw [if_pos c46] at h
              refine hr_iload_n hC dX21_combined_105 rfl ?_
              refine hr_iload_n hC dX21_combined_106 rfl ?_
              refine hr_imul hC dX21_combined_107 ?_
              refine hr_goto hC 166 dX21_combined_108 (by decide) ?_
              obtain rfl := Option.some.inj h
              exact hr_sub _ rfl (J41)
          · rw [if_pos c44] at h
            refine hr_iload_n hC dX21_combined_92 rfl ?_
            refine hr_iload_n hC dX21_combined_93 rfl ?_
            refine hr_isub hC dX21_combined_94 ?_
            refine hr_goto hC 166 dX21_combined_95 (by decide) ?_
            obtain rfl := Option.some.inj h
            exact hr_sub _ rfl (J41)
        · rw [if_pos c38] at h
          refine hr_iload_n hC dX21_combined_79 rfl ?_
          refine hr_iload_n hC dX21_combined_80 rfl ?_
          refine hr_iadd hC dX21_combined_81 ?_
          refine hr_goto hC 166 dX21_combined_82 (by decide) ?_
          obtain rfl := Option.some.inj h
          exact hr_sub _ rfl (J41)
      · rw [if_pos c36] at h
        refine hr_iload_n hC dX21_combined_61 rfl ?_
        refine hr_if_ne (x := _) hC 72 dX21_combined_62 (by decide) (fun c58 => ?_) (fun c58 => ?_)
        · rw [if_neg c58] at h
          refine hr_iload hC dX21_combined_72 rfl ?_
          refine hr_bipush (v := 43) hC dX21_combined_74 rfl ?_
          obtain ⟨r61, e62, h⟩ := hx_bind h
          have J63 : hc_At hc_V0 E 6 X 166 [] [.int r61] σ am [] := by
            obtain rfl := Option.some.inj h
            exact hr_iret hC dX21_combined_166
          clear h
          have h := e62
          refine hr_icmp_ne (x := _) hC 85 dX21_combined_76 (by decide) (fun c60 => ?_) (fun c60 => ?_)
          · rw [if_neg c60] at h
            refine hr_iload hC dX21_combined_85 rfl ?_
            refine hr_bipush (v := 45) hC dX21_combined_87 rfl ?_
            refine hr_icmp_ne (x := _) hC 98 dX21_combined_89 (by decide) (fun c66 => ?_) (fun c66 => ?_)
            · rw [if_neg c66] at h
              refine hr_iload hC dX21_combined_98 rfl ?_
              refine hr_bipush (v := 42) hC dX21_combined_100 rfl ?_
              refine hr_icmp_ne (x := _) hC 111 dX21_combined_102 (by decide) (fun c68 => ?_) (fun c68 => ?_)
              · rw [if_neg c68] at h
                refine hr_iload hC dX21_combined_111 rfl ?_
                refine hr_bipush (v := 47) hC dX21_combined_113 rfl ?_
                refine hr_icmp_ne (x := _) hC 124 dX21_combined_115 (by decide) (fun c70 => ?_) (fun c70 => ?_)
                · rw [if_neg c70] at h
                  refine hr_iload hC dX21_combined_124 rfl ?_
                  refine hr_bipush (v := 37) hC dX21_combined_126 rfl ?_
                  refine hr_icmp_ne (x := _) hC 137 dX21_combined_128 (by decide) (fun c72 => ?_) (fun c72 => ?_)
                  · rw [if_neg c72] at h
                    refine hr_iload hC dX21_combined_137 rfl ?_
                    refine hr_bipush (v := 38) hC dX21_combined_139 rfl ?_
                    refine hr_icmp_ne (x := _) hC 150 dX21_combined_141 (by decide) (fun c74 => ?_) (fun c74 => ?_)
                    · rw [if_neg c74] at h
                      refine hr_iload hC dX21_combined_150 rfl ?_
                      refine hr_bipush (v := 124) hC dX21_combined_152 rfl ?_
                      refine hr_icmp_ne (x := _) hC 163 dX21_combined_154 (by decide) (fun c76 => ?_) (fun c76 => ?_)
                      · rw [if_neg c76] at h
                        refine hr_iload_n hC dX21_combined_163 rfl ?_
                        refine hr_iload_n hC dX21_combined_164 rfl ?_
                        refine hr_ixor hC dX21_combined_165 ?_
                        obtain rfl := Option.some.inj h
                        exact hr_sub _ rfl (J63)
                      · rw [if_pos c76] at h
                        refine hr_iload_n hC dX21_combined_157 rfl ?_
                        refine hr_iload_n hC dX21_combined_158 rfl ?_
                        refine hr_ior hC dX21_combined_159 ?_
                        refine hr_goto hC 166 dX21_combined_160 (by decide) ?_
                        obtain rfl := Option.some.inj h
                        exact hr_sub _ rfl (J63)
                    · rw [if_pos c74] at h
                      refine hr_iload_n hC dX21_combined_144 rfl ?_
                      refine hr_iload_n hC dX21_combined_145 rfl ?_
                      refine hr_iand hC dX21_combined_146 ?_
                      refine hr_goto hC 166 dX21_combined_147 (by decide) ?_
                      obtain rfl := Option.some.inj h
                      exact hr_sub _ rfl (J63)
                  · rw [if_pos c72] at h
                    refine hr_iload_n hC dX21_combined_131 rfl ?_
                    refine hr_iload_n hC dX21_combined_132 rfl ?_
                    obtain ⟨c77, h⟩ := hk_ok h
                    refine hr_irem hC dX21_combined_133 (of_decide_eq_true c77) ?_
                    refine hr_goto hC 166 dX21_combined_134 (by decide) ?_
                    obtain rfl := Option.some.inj h
                    exact hr_sub _ rfl (J63)
                · rw [if_pos c70] at h
                  refine hr_iload_n hC dX21_combined_118 rfl ?_
                  refine hr_iload_n hC dX21_combined_119 rfl ?_
                  obtain ⟨c78, h⟩ := hk_ok h
                  refine hr_idiv hC dX21_combined_120 (of_decide_eq_true c78) ?_
                  refine hr_goto hC 166 dX21_combined_121 (by decide) ?_
                  obtain rfl := Option.some.inj h
                  exact hr_sub _ rfl (J63)
              · rw [if_pos c68] at h
                refine hr_iload_n hC dX21_combined_105 rfl ?_
                refine hr_iload_n hC dX21_combined_106 rfl ?_
                refine hr_imul hC dX21_combined_107 ?_
                refine hr_goto hC 166 dX21_combined_108 (by decide) ?_
                obtain rfl := Option.some.inj h
                exact hr_sub _ rfl (J63)
            · rw [if_pos c66] at h
              refine hr_iload_n hC dX21_combined_92 rfl ?_
              refine hr_iload_n hC dX21_combined_93 rfl ?_
              refine hr_isub hC dX21_combined_94 ?_
              refine hr_goto hC 166 dX21_combined_95 (by decide) ?_
              obtain rfl := Option.some.inj h
              exact hr_sub _ rfl (J63)
          · rw [if_pos c60] at h
            refine hr_iload_n hC dX21_combined_79 rfl ?_
            refine hr_iload_n hC dX21_combined_80 rfl ?_
            refine hr_iadd hC dX21_combined_81 ?_
            refine hr_goto hC 166 dX21_combined_82 (by decide) ?_
            obtain rfl := Option.some.inj h
            exact hr_sub _ rfl (J63)
        · rw [if_pos c58] at h
          refine hr_aload_n hC dX21_combined_65 rfl ?_
          refine hr_iconst (v := 3) hC dX21_combined_66 rfl ?_
          obtain ⟨r79, e80, h⟩ := hx_bind h
          refine hs_callV0 hC 23 [_] _ dX21_combined_67 q3587 q3589 qs281 q335 q3590 np_X21 rfl OB_23 pd_X21_stop (Nat.le_of_ble_eq_true rfl) hd1 (okX21_stop l E A (d - 1)  (by omega)  e80 am) rfl ?_
          refine hr_iconst (v := 0) hC dX21_combined_70 rfl ?_
          obtain rfl := Option.some.inj h
          exact hr_iret hC dX21_combined_71
  · rw [if_pos c6] at h
    refine hr_iload hC dX21_combined_30 rfl ?_
    refine hr_bipush (v := 60) hC dX21_combined_32 rfl ?_
    obtain ⟨v85, hv85, h⟩ := hl_ok h
    have J86 : ∀ w87 : Int32, (if (sCh ((gC σ 23 1 ((gC σ 23 14 x1)))) 0) = 60 then (jshl x2 x3) else (jshr x2 x3)) = w87 → hc_At hc_V0 E 6 X 46 [] [.int w87] σ am [] := by
      intro w87 hw87
      obtain rfl := hv85.trans hw87
      obtain rfl := Option.some.inj h
      exact hr_iret hC dX21_combined_46
    refine hr_icmp_ne (x := _) hC 43 dX21_combined_34 (by decide) (fun c88 => ?_) (fun c88 => ?_)
    · refine hr_iload_n hC dX21_combined_43 rfl ?_
      refine hr_iload_n hC dX21_combined_44 rfl ?_
      refine hr_ishr hC dX21_combined_45 ?_
      exact hr_sub _ rfl (J86 _ (by first | (rw [if_neg c88]; done) | (simp only [if_neg c88]; done) | rfl))
    · refine hr_iload_n hC dX21_combined_37 rfl ?_
      refine hr_iload_n hC dX21_combined_38 rfl ?_
      refine hr_ishl hC dX21_combined_39 ?_
      refine hr_goto hC 46 dX21_combined_40 (by decide) ?_
      exact hr_sub _ rfl (J86 _ (by first | (rw [if_pos c88]; done) | (simp only [if_pos c88]; done) | rfl))
/-- HomeCompilerModel.doAssign(II)V -/
def fm_X21_doAssign  (x1 : Int32) (x2 : Int32) (σ : hc_St) : Option hc_St := hk (inb x1 (gL σ 23 21)) <| if x2 = 0 then (hk (inb ((gC σ 23 21 x1)) (gL σ 23 18)) <| if (gC σ 23 18 ((gC σ 23 21 x1))).toInt8.toInt32 = 4 then (Option.bind (fm_X21_state 1 σ) fun r113 => hk (inb ((gC σ 23 21 x1)) (gL r113 23 21)) <| Option.bind (fm_X21_push ((gC r113 23 21 ((gC σ 23 21 x1)))) r113) fun r118 => some r118) else (if 2 ≤ x2 then (Option.bind (fm_X21_take_2  σ) fun r62 => Option.bind (fm_X21_placeOf ((gC σ 23 21 x1)) r62.2) fun r66 => if 0 ≤ r66.1 then (hk (inb x1 (gL r66.2 23 19)) <| hk (inb ((gC r66.2 23 19 x1)) (gL r66.2 23 12)) <| Option.bind (α := hc_St × Int32) (if (gC r66.2 23 12 ((gC r66.2 23 19 x1))) = 1 then (some (r66.2, r62.1)) else (hk (inb x1 (gL r66.2 23 19)) <| hk (inb r66.1 (gL r66.2 23 66)) <| Option.bind (fm_X21_combined ((gC r66.2 23 19 x1)) ((gC r66.2 23 66 r66.1)) r62.1 r66.2) fun r82 => some (r82.2, r82.1))) fun r76 => Option.bind (α := hc_St) (if (gI r76.1 23 77) = (-1) then (hk (inb ((gC σ 23 21 x1)) (gL r76.1 23 22)) <| Option.bind (fm_X21_stored ((gC r76.1 23 22 ((gC σ 23 21 x1)))) r76.2 r76.1) fun r93 => hk (inb r66.1 (gL r76.1 23 66)) <| hl (pC r76.1 23 66 r66.1 r93) fun σ98 => hk (inb r66.1 (gL σ98 23 66)) <| Option.bind (fm_X21_done ((gC σ98 23 66 r66.1)) σ98) fun r100 => some (r100)) else (some (r76.1))) fun r88 => some r88) else (some r66.2)) else (Option.bind (fm_X21_state 2 σ) fun r104 => hk (inb x1 (gL r104 23 22)) <| Option.bind (fm_X21_push ((gC r104 23 22 x1)) r104) fun r109 => some r109))) else (if 2 ≤ x2 then (Option.bind (fm_X21_take_2  σ) fun r6 => Option.bind (fm_X21_placeOf ((gC σ 23 21 x1)) r6.2) fun r10 => if 0 ≤ r10.1 then (hk (inb x1 (gL r10.2 23 19)) <| hk (inb ((gC r10.2 23 19 x1)) (gL r10.2 23 12)) <| Option.bind (α := hc_St × Int32) (if (gC r10.2 23 12 ((gC r10.2 23 19 x1))) = 1 then (some (r10.2, r6.1)) else (hk (inb x1 (gL r10.2 23 19)) <| hk (inb r10.1 (gL r10.2 23 66)) <| Option.bind (fm_X21_combined ((gC r10.2 23 19 x1)) ((gC r10.2 23 66 r10.1)) r6.1 r10.2) fun r26 => some (r26.2, r26.1))) fun r20 => Option.bind (α := hc_St) (if (gI r20.1 23 77) = (-1) then (hk (inb ((gC σ 23 21 x1)) (gL r20.1 23 22)) <| Option.bind (fm_X21_stored ((gC r20.1 23 22 ((gC σ 23 21 x1)))) r20.2 r20.1) fun r37 => hk (inb r10.1 (gL r20.1 23 66)) <| hl (pC r20.1 23 66 r10.1 r37) fun σ42 => hk (inb r10.1 (gL σ42 23 66)) <| Option.bind (fm_X21_done ((gC σ42 23 66 r10.1)) σ42) fun r44 => some (r44)) else (some (r20.1))) fun r32 => some r32) else (some r10.2)) else (Option.bind (fm_X21_state 2 σ) fun r48 => hk (inb x1 (gL r48 23 22)) <| Option.bind (fm_X21_push ((gC r48 23 22 x1)) r48) fun r53 => some r53))
set_option maxRecDepth 20000 in
set_option maxHeartbeats 4000000 in
theorem okX21_doAssign (l : Launch) (E : hc_E) (A : Nat → Prop) (d : Nat)  (hD : 10 ≤ d) {x1 : Int32} {x2 : Int32} {σ : hc_St} {r : hc_St} (h : fm_X21_doAssign  x1 x2 σ = some r) (am : Nat → Nat → Nat) : hc_M l hc_V0 yX21_doAssign (ws_ yX21_doAssign cX21_doAssign 7 none) d E A [.ref (E.2.1 23), .int x1, .int x2] am [] σ (.inl none) r := by
  have hd1 : 1 ≤ d := by omega
  have hd8 : 9 ≤ d := by omega
  refine hc_enter2 (own := RX21) [(0, .ref (E.2.1 23)), (1, .int x1), (2, .int x2)] pl_X21 rfl hc_V0_st hc_G0_nd rfl (Nat.le_of_ble_eq_true rfl) (fun X hC hem => ?_)
  unfold fm_X21_doAssign at h
  refine hr_aload_n hC dX21_doAssign_0 rfl ?_
  refine hr_gA hC F23_21 rfl dX21_doAssign_1 q2863 ?_
  refine hr_iload_n hC dX21_doAssign_4 rfl ?_
  obtain ⟨c1, h⟩ := hk_ok h
  refine hs_iald hC A23_21 c1 dX21_doAssign_5 ?_
  refine hr_istore_n hC dX21_doAssign_6 (by decide) ?_
  refine hr_iload_n hC dX21_doAssign_7 rfl ?_
  refine hr_if_ne (x := _) hC 37 dX21_doAssign_8 (by decide) (fun c3 => ?_) (fun c3 => ?_)
  · rw [if_neg c3] at h
    refine hr_iload_n hC dX21_doAssign_37 rfl ?_
    refine hr_iconst (v := 2) hC dX21_doAssign_38 rfl ?_
    refine hr_icmp_ge (x := _) hC 58 dX21_doAssign_39 (by decide) (fun c5 => ?_) (fun c5 => ?_)
    · rw [if_pos c5] at h
      refine hr_aload_n hC dX21_doAssign_58 rfl ?_
      obtain ⟨r6, e7, h⟩ := hx_bind h
      refine hs_callV0 hC 23 [] _ dX21_doAssign_59 q3615 q3617 qs288 q335 q3618 np_X21 rfl OB_23 pd_X21_take_2 (Nat.le_of_ble_eq_true rfl) hd1 (okX21_take_2 l E A (d - 1)  (by omega)  e7 am) rfl ?_
      refine hr_istore hC dX21_doAssign_62 (by decide) ?_
      refine hr_aload_n hC dX21_doAssign_64 rfl ?_
      refine hr_iload_n hC dX21_doAssign_65 rfl ?_
      obtain ⟨r10, e11, h⟩ := hx_bind h
      refine hs_callV0 hC 23 [_] _ dX21_doAssign_66 q3699 q3701 qs309 q335 q3702 np_X21 rfl OB_23 pd_X21_placeOf (Nat.le_of_ble_eq_true rfl) hd1 (okX21_placeOf l E A (d - 1)  (by omega)  e11 am) rfl ?_
      refine hr_istore hC dX21_doAssign_69 (by decide) ?_
      refine hr_iload hC dX21_doAssign_71 rfl ?_
      refine hr_if_ge (x := _) hC 77 dX21_doAssign_73 (by decide) (fun c15 => ?_) (fun c15 => ?_)
      · rw [if_pos c15] at h
        refine hr_aload_n hC dX21_doAssign_77 rfl ?_
        refine hr_gA hC F23_12 rfl dX21_doAssign_78 q2854 ?_
        refine hr_aload_n hC dX21_doAssign_81 rfl ?_
        refine hr_gA hC F23_19 rfl dX21_doAssign_82 q2861 ?_
        refine hr_iload_n hC dX21_doAssign_85 rfl ?_
        obtain ⟨c16, h⟩ := hk_ok h
        refine hs_iald hC A23_19 c16 dX21_doAssign_86 ?_
        obtain ⟨c17, h⟩ := hk_ok h
        refine hs_iald hC A23_12 c17 dX21_doAssign_87 ?_
        refine hr_iconst (v := 1) hC dX21_doAssign_88 rfl ?_
        obtain ⟨r20, e21, h⟩ := hx_bind h
        have J22 : hc_At hc_V0 E 7 X 116 [(0, .ref (E.2.1 23)), (3, .int (gC σ 23 21 x1)), (5, .int r10.1)] [.int r20.2] r20.1 am [] := by
          refine hr_istore hC dX21_doAssign_116 (by decide) ?_
          refine hr_aload_n hC dX21_doAssign_118 rfl ?_
          refine hr_gI hC F23_77 dX21_doAssign_119 q2918 ?_
          refine hr_iconst (v := (-1)) hC dX21_doAssign_122 rfl ?_
          obtain ⟨r32, e33, h⟩ := hx_bind h
          have J34 : hc_At hc_V0 E 7 X 156 [] [] r32 am [] := by
            obtain rfl := Option.some.inj h
            exact hr_vret hC dX21_doAssign_156
          clear h
          have h := e33
          refine hr_icmp_ne (x := _) hC 156 dX21_doAssign_123 (by decide) (fun c31 => ?_) (fun c31 => ?_)
          · rw [if_neg c31] at h
            obtain rfl := Option.some.inj h
            exact hr_sub _ rfl (J34)
          · rw [if_pos c31] at h
            refine hr_aload_n hC dX21_doAssign_126 rfl ?_
            refine hr_gA hC F23_66 rfl dX21_doAssign_127 q2907 ?_
            refine hr_iload hC dX21_doAssign_130 rfl ?_
            refine hr_aload_n hC dX21_doAssign_132 rfl ?_
            refine hr_aload_n hC dX21_doAssign_133 rfl ?_
            refine hr_gA hC F23_22 rfl dX21_doAssign_134 q2864 ?_
            refine hr_iload_n hC dX21_doAssign_137 rfl ?_
            obtain ⟨c36, h⟩ := hk_ok h
            refine hs_iald hC A23_22 c36 dX21_doAssign_138 ?_
            refine hr_iload hC dX21_doAssign_139 rfl ?_
            obtain ⟨r37, e38, h⟩ := hx_bind h
            refine hs_callV0 hC 23 [_, _] _ dX21_doAssign_141 q3563 q3565 qs275 q335 q3566 np_X21 rfl OB_23 pd_X21_stored (Nat.le_of_ble_eq_true rfl) hd1 (okX21_stored l E A (d - 1)  (by omega)  e38 am) rfl ?_
            obtain ⟨c41, h⟩ := hk_ok h
            obtain ⟨σ42, hσ42, h⟩ := hl_ok h
            refine hs_iast hC A23_66 c41 dX21_doAssign_144 ?_
            rw [← hσ42]
            refine hr_aload_n hC dX21_doAssign_145 rfl ?_
            refine hr_aload_n hC dX21_doAssign_146 rfl ?_
            refine hr_gA hC F23_66 rfl dX21_doAssign_147 q2907 ?_
            refine hr_iload hC dX21_doAssign_150 rfl ?_
            obtain ⟨c43, h⟩ := hk_ok h
            refine hs_iald hC A23_66 c43 dX21_doAssign_152 ?_
            obtain ⟨r44, e45, h⟩ := hx_bind h
            refine hs_callV0 hC 23 [_] _ dX21_doAssign_153 q3651 q3653 qs297 q335 q3654 np_X21 rfl OB_23 pd_X21_done (Nat.le_of_ble_eq_true rfl) hd1 (okX21_done l E A (d - 1)  (by omega)  e45 am) rfl ?_
            obtain rfl := Option.some.inj h
            exact hr_sub _ rfl (J34)
        clear h
        have h := e21
        refine hr_icmp_ne (x := _) hC 97 dX21_doAssign_89 (by decide) (fun c19 => ?_) (fun c19 => ?_)
        · rw [if_neg c19] at h
          refine hr_aload_n hC dX21_doAssign_97 rfl ?_
          refine hr_aload_n hC dX21_doAssign_98 rfl ?_
          refine hr_gA hC F23_19 rfl dX21_doAssign_99 q2861 ?_
          refine hr_iload_n hC dX21_doAssign_102 rfl ?_
          obtain ⟨c24, h⟩ := hk_ok h
          refine hs_iald hC A23_19 c24 dX21_doAssign_103 ?_
          refine hr_aload_n hC dX21_doAssign_104 rfl ?_
          refine hr_gA hC F23_66 rfl dX21_doAssign_105 q2907 ?_
          refine hr_iload hC dX21_doAssign_108 rfl ?_
          obtain ⟨c25, h⟩ := hk_ok h
          refine hs_iald hC A23_66 c25 dX21_doAssign_110 ?_
          refine hr_iload hC dX21_doAssign_111 rfl ?_
          obtain ⟨r26, e27, h⟩ := hx_bind h
          refine hs_callV0 hC 23 [_, _, _] _ dX21_doAssign_113 q3711 q3713 qs312 q335 q3714 np_X21 rfl OB_23 pd_X21_combined (Nat.le_of_ble_eq_true rfl) hd1 (okX21_combined l E A (d - 1)  (by omega)  e27 am) rfl ?_
          obtain rfl := Option.some.inj h
          exact hr_sub _ rfl (J22)
        · rw [if_pos c19] at h
          refine hr_iload hC dX21_doAssign_92 rfl ?_
          refine hr_goto hC 116 dX21_doAssign_94 (by decide) ?_
          obtain rfl := Option.some.inj h
          exact hr_sub _ rfl (J22)
      · rw [if_neg c15] at h
        obtain rfl := Option.some.inj h
        exact hr_vret hC dX21_doAssign_76
    · rw [if_neg c5] at h
      refine hr_aload_n hC dX21_doAssign_42 rfl ?_
      refine hr_iconst (v := 2) hC dX21_doAssign_43 rfl ?_
      obtain ⟨r48, e49, h⟩ := hx_bind h
      refine hs_callV0 hC 23 [_] _ dX21_doAssign_44 q3611 q3613 qs287 q335 q3614 np_X21 rfl OB_23 pd_X21_state (Nat.le_of_ble_eq_true rfl) hd1 (okX21_state l E A (d - 1)  (by omega)  e49 am) rfl ?_
      refine hr_aload_n hC dX21_doAssign_47 rfl ?_
      refine hr_aload_n hC dX21_doAssign_48 rfl ?_
      refine hr_gA hC F23_22 rfl dX21_doAssign_49 q2864 ?_
      refine hr_iload_n hC dX21_doAssign_52 rfl ?_
      obtain ⟨c52, h⟩ := hk_ok h
      refine hs_iald hC A23_22 c52 dX21_doAssign_53 ?_
      obtain ⟨r53, e54, h⟩ := hx_bind h
      refine hs_callV0 hC 23 [_] _ dX21_doAssign_54 q3595 q3597 qs283 q335 q3598 np_X21 rfl OB_23 pd_X21_push (Nat.le_of_ble_eq_true rfl) hd1 (okX21_push l E A (d - 1)  (by omega)  e54 am) rfl ?_
      obtain rfl := Option.some.inj h
      exact hr_vret hC dX21_doAssign_57
  · rw [if_pos c3] at h
    refine hr_aload_n hC dX21_doAssign_11 rfl ?_
    refine hr_gA hC F23_18 rfl dX21_doAssign_12 q2860 ?_
    refine hr_iload_n hC dX21_doAssign_15 rfl ?_
    obtain ⟨c57, h⟩ := hk_ok h
    refine hs_bald hC A23_18 c57 dX21_doAssign_16 ?_
    refine hr_iconst (v := 4) hC dX21_doAssign_17 rfl ?_
    refine hr_icmp_ne (x := _) hC 37 dX21_doAssign_18 (by decide) (fun c59 => ?_) (fun c59 => ?_)
    · rw [if_neg c59] at h
      refine hr_iload_n hC dX21_doAssign_37 rfl ?_
      refine hr_iconst (v := 2) hC dX21_doAssign_38 rfl ?_
      refine hr_icmp_ge (x := _) hC 58 dX21_doAssign_39 (by decide) (fun c61 => ?_) (fun c61 => ?_)
      · rw [if_pos c61] at h
        refine hr_aload_n hC dX21_doAssign_58 rfl ?_
        obtain ⟨r62, e63, h⟩ := hx_bind h
        refine hs_callV0 hC 23 [] _ dX21_doAssign_59 q3615 q3617 qs288 q335 q3618 np_X21 rfl OB_23 pd_X21_take_2 (Nat.le_of_ble_eq_true rfl) hd1 (okX21_take_2 l E A (d - 1)  (by omega)  e63 am) rfl ?_
        refine hr_istore hC dX21_doAssign_62 (by decide) ?_
        refine hr_aload_n hC dX21_doAssign_64 rfl ?_
        refine hr_iload_n hC dX21_doAssign_65 rfl ?_
        obtain ⟨r66, e67, h⟩ := hx_bind h
        refine hs_callV0 hC 23 [_] _ dX21_doAssign_66 q3699 q3701 qs309 q335 q3702 np_X21 rfl OB_23 pd_X21_placeOf (Nat.le_of_ble_eq_true rfl) hd1 (okX21_placeOf l E A (d - 1)  (by omega)  e67 am) rfl ?_
        refine hr_istore hC dX21_doAssign_69 (by decide) ?_
        refine hr_iload hC dX21_doAssign_71 rfl ?_
        refine hr_if_ge (x := _) hC 77 dX21_doAssign_73 (by decide) (fun c71 => ?_) (fun c71 => ?_)
        · rw [if_pos c71] at h
          refine hr_aload_n hC dX21_doAssign_77 rfl ?_
          refine hr_gA hC F23_12 rfl dX21_doAssign_78 q2854 ?_
          refine hr_aload_n hC dX21_doAssign_81 rfl ?_
          refine hr_gA hC F23_19 rfl dX21_doAssign_82 q2861 ?_
          refine hr_iload_n hC dX21_doAssign_85 rfl ?_
          obtain ⟨c72, h⟩ := hk_ok h
          refine hs_iald hC A23_19 c72 dX21_doAssign_86 ?_
          obtain ⟨c73, h⟩ := hk_ok h
          refine hs_iald hC A23_12 c73 dX21_doAssign_87 ?_
          refine hr_iconst (v := 1) hC dX21_doAssign_88 rfl ?_
          obtain ⟨r76, e77, h⟩ := hx_bind h
          have J78 : hc_At hc_V0 E 7 X 116 [(0, .ref (E.2.1 23)), (3, .int (gC σ 23 21 x1)), (5, .int r66.1)] [.int r76.2] r76.1 am [] := by
            refine hr_istore hC dX21_doAssign_116 (by decide) ?_
            refine hr_aload_n hC dX21_doAssign_118 rfl ?_
            refine hr_gI hC F23_77 dX21_doAssign_119 q2918 ?_
            refine hr_iconst (v := (-1)) hC dX21_doAssign_122 rfl ?_
            obtain ⟨r88, e89, h⟩ := hx_bind h
            have J90 : hc_At hc_V0 E 7 X 156 [] [] r88 am [] := by
              obtain rfl := Option.some.inj h
              exact hr_vret hC dX21_doAssign_156
            clear h
            have h := e89
            refine hr_icmp_ne (x := _) hC 156 dX21_doAssign_123 (by decide) (fun c87 => ?_) (fun c87 => ?_)
            · rw [if_neg c87] at h
              obtain rfl := Option.some.inj h
              exact hr_sub _ rfl (J90)
            · rw [if_pos c87] at h
              refine hr_aload_n hC dX21_doAssign_126 rfl ?_
              refine hr_gA hC F23_66 rfl dX21_doAssign_127 q2907 ?_
              refine hr_iload hC dX21_doAssign_130 rfl ?_
              refine hr_aload_n hC dX21_doAssign_132 rfl ?_
              refine hr_aload_n hC dX21_doAssign_133 rfl ?_
              refine hr_gA hC F23_22 rfl dX21_doAssign_134 q2864 ?_
              refine hr_iload_n hC dX21_doAssign_137 rfl ?_
              obtain ⟨c92, h⟩ := hk_ok h
              refine hs_iald hC A23_22 c92 dX21_doAssign_138 ?_
              refine hr_iload hC dX21_doAssign_139 rfl ?_
              obtain ⟨r93, e94, h⟩ := hx_bind h
              refine hs_callV0 hC 23 [_, _] _ dX21_doAssign_141 q3563 q3565 qs275 q335 q3566 np_X21 rfl OB_23 pd_X21_stored (Nat.le_of_ble_eq_true rfl) hd1 (okX21_stored l E A (d - 1)  (by omega)  e94 am) rfl ?_
              obtain ⟨c97, h⟩ := hk_ok h
              obtain ⟨σ98, hσ98, h⟩ := hl_ok h
              refine hs_iast hC A23_66 c97 dX21_doAssign_144 ?_
              rw [← hσ98]
              refine hr_aload_n hC dX21_doAssign_145 rfl ?_
              refine hr_aload_n hC dX21_doAssign_146 rfl ?_
              refine hr_gA hC F23_66 rfl dX21_doAssign_147 q2907 ?_
              refine hr_iload hC dX21_doAssign_150 rfl ?_
              obtain ⟨c99, h⟩ := hk_ok h
              refine hs_iald hC A23_66 c99 dX21_doAssign_152 ?_
              obtain ⟨r100, e101, h⟩ := hx_bind h
              refine hs_callV0 hC 23 [_] _ dX21_doAssign_153 q3651 q3653 qs297 q335 q3654 np_X21 rfl OB_23 pd_X21_done (Nat.le_of_ble_eq_true rfl) hd1 (okX21_done l E A (d - 1)  (by omega)  e101 am) rfl ?_
              obtain rfl := Option.some.inj h
              exact hr_sub _ rfl (J90)
          clear h
          have h := e77
          refine hr_icmp_ne (x := _) hC 97 dX21_doAssign_89 (by decide) (fun c75 => ?_) (fun c75 => ?_)
          · rw [if_neg c75] at h
            refine hr_aload_n hC dX21_doAssign_97 rfl ?_
            refine hr_aload_n hC dX21_doAssign_98 rfl ?_
            refine hr_gA hC F23_19 rfl dX21_doAssign_99 q2861 ?_
            refine hr_iload_n hC dX21_doAssign_102 rfl ?_
            obtain ⟨c80, h⟩ := hk_ok h
            refine hs_iald hC A23_19 c80 dX21_doAssign_103 ?_
            refine hr_aload_n hC dX21_doAssign_104 rfl ?_
            refine hr_gA hC F23_66 rfl dX21_doAssign_105 q2907 ?_
            refine hr_iload hC dX21_doAssign_108 rfl ?_
            obtain ⟨c81, h⟩ := hk_ok h
            refine hs_iald hC A23_66 c81 dX21_doAssign_110 ?_
            refine hr_iload hC dX21_doAssign_111 rfl ?_
            obtain ⟨r82, e83, h⟩ := hx_bind h
            refine hs_callV0 hC 23 [_, _, _] _ dX21_doAssign_113 q3711 q3713 qs312 q335 q3714 np_X21 rfl OB_23 pd_X21_combined (Nat.le_of_ble_eq_true rfl) hd1 (okX21_combined l E A (d - 1)  (by omega)  e83 am) rfl ?_
            obtain rfl := Option.some.inj h
            exact hr_sub _ rfl (J78)
          · rw [if_pos c75] at h
            refine hr_iload hC dX21_doAssign_92 rfl ?_
            refine hr_goto hC 116 dX21_doAssign_94 (by decide) ?_
            obtain rfl := Option.some.inj h
            exact hr_sub _ rfl (J78)
        · rw [if_neg c71] at h
          obtain rfl := Option.some.inj h
          exact hr_vret hC dX21_doAssign_76
      · rw [if_neg c61] at h
        refine hr_aload_n hC dX21_doAssign_42 rfl ?_
        refine hr_iconst (v := 2) hC dX21_doAssign_43 rfl ?_
        obtain ⟨r104, e105, h⟩ := hx_bind h
        refine hs_callV0 hC 23 [_] _ dX21_doAssign_44 q3611 q3613 qs287 q335 q3614 np_X21 rfl OB_23 pd_X21_state (Nat.le_of_ble_eq_true rfl) hd1 (okX21_state l E A (d - 1)  (by omega)  e105 am) rfl ?_
        refine hr_aload_n hC dX21_doAssign_47 rfl ?_
        refine hr_aload_n hC dX21_doAssign_48 rfl ?_
        refine hr_gA hC F23_22 rfl dX21_doAssign_49 q2864 ?_
        refine hr_iload_n hC dX21_doAssign_52 rfl ?_
        obtain ⟨c108, h⟩ := hk_ok h
        refine hs_iald hC A23_22 c108 dX21_doAssign_53 ?_
        obtain ⟨r109, e110, h⟩ := hx_bind h
        refine hs_callV0 hC 23 [_] _ dX21_doAssign_54 q3595 q3597 qs283 q335 q3598 np_X21 rfl OB_23 pd_X21_push (Nat.le_of_ble_eq_true rfl) hd1 (okX21_push l E A (d - 1)  (by omega)  e110 am) rfl ?_
        obtain rfl := Option.some.inj h
        exact hr_vret hC dX21_doAssign_57
    · rw [if_pos c59] at h
      refine hr_aload_n hC dX21_doAssign_21 rfl ?_
      refine hr_iconst (v := 1) hC dX21_doAssign_22 rfl ?_
      obtain ⟨r113, e114, h⟩ := hx_bind h
      refine hs_callV0 hC 23 [_] _ dX21_doAssign_23 q3611 q3613 qs287 q335 q3614 np_X21 rfl OB_23 pd_X21_state (Nat.le_of_ble_eq_true rfl) hd1 (okX21_state l E A (d - 1)  (by omega)  e114 am) rfl ?_
      refine hr_aload_n hC dX21_doAssign_26 rfl ?_
      refine hr_aload_n hC dX21_doAssign_27 rfl ?_
      refine hr_gA hC F23_21 rfl dX21_doAssign_28 q2863 ?_
      refine hr_iload_n hC dX21_doAssign_31 rfl ?_
      obtain ⟨c117, h⟩ := hk_ok h
      refine hs_iald hC A23_21 c117 dX21_doAssign_32 ?_
      obtain ⟨r118, e119, h⟩ := hx_bind h
      refine hs_callV0 hC 23 [_] _ dX21_doAssign_33 q3595 q3597 qs283 q335 q3598 np_X21 rfl OB_23 pd_X21_push (Nat.le_of_ble_eq_true rfl) hd1 (okX21_push l E A (d - 1)  (by omega)  e119 am) rfl ?_
      obtain rfl := Option.some.inj h
      exact hr_vret hC dX21_doAssign_36
