set_option maxRecDepth 20000
def okg_X21_conditional (l : Launch) (E : hc_E) (A : Nat → Prop) (d : Nat) (am : Nat → Nat → Nat) (w : Nat) (a : List Int32) (σ : hc_St) (r : (Nat × Int32 × hc_St)) : Prop := match w with
  | 0 => hc_M l hc_V0 yX21_conditional (ws_ yX21_conditional cX21_conditional 7 (some .int)) d E A [.ref (E.2.1 23)] am [] σ (hc_ot (fun v => some (.int v)) r) r.2.2
  | 1 => hc_M l hc_V0 yX21_binary (ws_ yX21_binary cX21_binary 5 (some .int)) d E A [.ref (E.2.1 23)] am [] σ (hc_ot (fun v => some (.int v)) r) r.2.2
  | 2 => hc_M l hc_V0 yX21_unary (ws_ yX21_unary cX21_unary 6 (some .int)) d E A [.ref (E.2.1 23)] am [] σ (hc_ot (fun v => some (.int v)) r) r.2.2
  | 3 => hc_M l hc_V0 yX21_postfix (ws_ yX21_postfix cX21_postfix 3 (some .int)) d E A [.ref (E.2.1 23)] am [] σ (hc_ot (fun v => some (.int v)) r) r.2.2
  | 4 => hc_M l hc_V0 yX21_primary (ws_ yX21_primary cX21_primary 3 (some .int)) d E A [.ref (E.2.1 23)] am [] σ (hc_ot (fun v => some (.int v)) r) r.2.2
  | 5 => hc_M l hc_V0 yX21_expression (ws_ yX21_expression cX21_expression 7 (some .int)) d E A [.ref (E.2.1 23)] am [] σ (hc_ot (fun v => some (.int v)) r) r.2.2
  | 6 => hc_M l hc_V0 yX21_call (ws_ yX21_call cX21_call 5 (some .int)) d E A [.ref (E.2.1 23), .int (a.getD 0 0)] am [] σ (hc_ot (fun v => some (.int v)) r) r.2.2
  | _ => True
/-- HomeCompilerModel.conditional()I -/
def bd_X21_conditional (n : Nat) (k0 : Nat) (rec : Nat → List Int32 → hc_St → Option (Nat × Int32 × hc_St))  (σ : hc_St) : Option (Nat × Int32 × hc_St) := Option.bind (rec 1 [] σ) fun r1 => ht r1 <| Option.bind (fm_X21_is 83 r1.2.2) fun r6 => if r6 = 0 then (some (0, r1.2.1, r1.2.2)) else (hl (α := Int32) ((if 0 ≤ r1.2.1 then r1.2.1 else (((-1)) - r1.2.1))) fun v14 => Option.bind (fm_X21_stands_2 v14 r1.2.2) fun r15 => ht r15 <| Option.bind (fm_X21_opens  r15.2.2) fun r20 => ht r20 <| Option.bind (rec 5 [] r20.2.2) fun r25 => ht r25 <| Option.bind (fm_X21_take 82 r25.2.2) fun r30 => ht r30 <| Option.bind (rec 0 [] r30.2.2) fun r35 => ht r35 <| hl (pI r35.2.2 23 16 ((((gI r35.2.2 23 16)) - 1))) fun σ40 => Option.bind (fm_X21_make 8 ((gI r1.2.2 23 15)) σ40) fun r41 => hl (α := Int32) ((if 0 ≤ r1.2.1 then r1.2.1 else (((-1)) - r1.2.1))) fun v47 => hk (inb v47 (gL r41.2 23 27)) <| hk (inb r25.2.1 (gL r41.2 23 27)) <| hl (α := Int32) ((if 0 ≤ r35.2.1 then r35.2.1 else (((-1)) - r35.2.1))) fun v52 => hk (inb v52 (gL r41.2 23 27)) <| Option.bind (fm_X21_deeper ((gC r41.2 23 27 r25.2.1)) ((gC r41.2 23 27 v52)) r41.2) fun r54 => Option.bind (fm_X21_deeper ((gC r41.2 23 27 v47)) r54 r41.2) fun r58 => hk (inb r41.1 (gL r41.2 23 27)) <| hl (pC r41.2 23 27 r41.1 ((1 + r58))) fun σ63 => hk (inb r41.1 (gL σ63 23 20)) <| hl (pC σ63 23 20 r41.1 ((gI σ 23 15))) fun σ65 => hl (α := Int32) ((if 0 ≤ r1.2.1 then r1.2.1 else (((-1)) - r1.2.1))) fun v68 => hk (inb r41.1 (gL σ65 23 21)) <| hl (pC σ65 23 21 r41.1 v68) fun σ70 => hk (inb r41.1 (gL σ70 23 22)) <| hl (pC σ70 23 22 r41.1 r25.2.1) fun σ72 => hl (α := Int32) ((if 0 ≤ r35.2.1 then r35.2.1 else (((-1)) - r35.2.1))) fun v75 => hk (inb r41.1 (gL σ72 23 23)) <| hl (pC σ72 23 23 r41.1 v75) fun σ77 => some (0, r41.1, σ77))
set_option maxRecDepth 20000 in
set_option maxHeartbeats 4000000 in
theorem okbX21_conditional (l : Launch) (E : hc_E) (A : Nat → Prop) (d : Nat) {kk : Nat} (n : Nat) (k0 : Nat) (rec : Nat → List Int32 → hc_St → Option (Nat × Int32 × hc_St)) (hD : kk + 16 ≤ d) (IH : ∀ (w : Nat) (a : List Int32) (σ : hc_St) (r : (Nat × Int32 × hc_St)), rec w a σ = some r → ∀ am, okg_X21_conditional l E A (d - 1) am w a σ r)  {σ : hc_St} {r : (Nat × Int32 × hc_St)} (h : bd_X21_conditional n k0 rec  σ = some r) (am : Nat → Nat → Nat) : hc_M l hc_V0 yX21_conditional (ws_ yX21_conditional cX21_conditional 7 (some .int)) d E A [.ref (E.2.1 23)] am [] σ (hc_ot (fun v => some (.int v)) r) r.2.2 := by
  have hd1 : 1 ≤ d := by omega
  have hd8 : 9 ≤ d := by omega
  have hd12 : 12 ≤ d := by omega
  refine hc_enter2 (own := RX21) [(0, .ref (E.2.1 23))] pl_X21 rfl hc_V0_st hc_G0_nd rfl (Nat.le_of_ble_eq_true rfl) (fun X hC hem => ?_)
  have HX := fun z => hc_CX hC z
  unfold bd_X21_conditional at h
  refine hr_aload_n hC dX21_conditional_0 rfl ?_
  refine hr_gI hC F23_15 dX21_conditional_1 q2857 ?_
  refine hr_istore_n hC dX21_conditional_4 (by decide) ?_
  refine hr_aload_n hC dX21_conditional_5 rfl ?_
  obtain ⟨r1, e2, h⟩ := hx_bind h
  by_cases z5 : r1.1 = 0
  · rw [ht_0 z5] at h
    refine hs_callV0 hC 23 [] _ dX21_conditional_6 q3243 q3245 qs198 q335 q3246 np_X21 rfl OB_23 pd_X21_binary (Nat.le_of_ble_eq_true rfl) hd1 (hc_M0 (r := r1) (IH _ _ _ _ e2 am) z5) rfl ?_
    refine hr_istore_n hC dX21_conditional_9 (by decide) ?_
    refine hr_aload_n hC dX21_conditional_10 rfl ?_
    refine hr_ldcs (v := 83) 83 hC dX21_conditional_11 (List.mem_of_getElem? (i := 83) rfl) (by decide) rfl ?_
    obtain ⟨r6, e7, h⟩ := hx_bind h
    refine hs_callV0 hC 23 [_] _ dX21_conditional_13 q3202 q3204 qs190 q335 q3205 np_X21 rfl OB_23 pd_X21_is (Nat.le_of_ble_eq_true rfl) hd1 (okX21_is l E A (d - 1)  (by omega)  e7 am) rfl ?_
    refine hr_if_ne (x := _) hC 21 dX21_conditional_16 (by decide) (fun c11 => ?_) (fun c11 => ?_)
    · rw [if_neg c11] at h
      refine hr_aload_n hC dX21_conditional_21 rfl ?_
      refine hr_gI hC F23_15 dX21_conditional_22 q2857 ?_
      refine hr_istore_n hC dX21_conditional_25 (by decide) ?_
      refine hr_aload_n hC dX21_conditional_26 rfl ?_
      refine hr_iload_n hC dX21_conditional_27 rfl ?_
      obtain ⟨v14, hv14, h⟩ := hl_ok h
      have J90 : ∀ w91 : Int32, (if 0 ≤ r1.2.1 then r1.2.1 else (((-1)) - r1.2.1)) = w91 → hc_At hc_V0 E 7 X 38 [(0, .ref (E.2.1 23)), (1, .int (gI σ 23 15)), (2, .int r1.2.1), (3, .int (gI r1.2.2 23 15))] [.int w91, .ref (E.2.1 23)] r1.2.2 am [] := by
        intro w91 hw91
        obtain rfl := hv14.trans hw91
        obtain ⟨r15, e16, h⟩ := hx_bind h
        by_cases z19 : r15.1 = 0
        · rw [ht_0 z19] at h
          refine hs_callV0 hC 23 [_] _ dX21_conditional_38 q3271 q3273 qs205 q335 q3274 np_X21 rfl OB_23 pd_X21_stands_2 (Nat.le_of_ble_eq_true rfl) hd1 (hc_M0 (r := r15) (okX21_stands_2 l E A (d - 1)  (by omega)  e16 am) z19) rfl ?_
          refine hr_aload_n hC dX21_conditional_41 rfl ?_
          obtain ⟨r20, e21, h⟩ := hx_bind h
          by_cases z24 : r20.1 = 0
          · rw [ht_0 z24] at h
            refine hs_callV0 hC 23 [] _ dX21_conditional_42 q3223 q3225 qs193 q335 q3226 np_X21 rfl OB_23 pd_X21_opens (Nat.le_of_ble_eq_true rfl) hd1 (hc_M0 (r := r20) (okX21_opens l E A (d - 1)  (by omega)  e21 am) z24) rfl ?_
            refine hr_aload_n hC dX21_conditional_45 rfl ?_
            obtain ⟨r25, e26, h⟩ := hx_bind h
            by_cases z29 : r25.1 = 0
            · rw [ht_0 z29] at h
              refine hs_callV0 hC 23 [] _ dX21_conditional_46 q3263 q3265 qs203 q335 q3266 np_X21 rfl OB_23 pd_X21_expression (Nat.le_of_ble_eq_true rfl) hd1 (hc_M0 (r := r25) (IH _ _ _ _ e26 am) z29) rfl ?_
              refine hr_istore hC dX21_conditional_49 (by decide) ?_
              refine hr_aload_n hC dX21_conditional_51 rfl ?_
              refine hr_ldcs (v := 82) 82 hC dX21_conditional_52 (List.mem_of_getElem? (i := 82) rfl) (by decide) rfl ?_
              obtain ⟨r30, e31, h⟩ := hx_bind h
              by_cases z34 : r30.1 = 0
              · rw [ht_0 z34] at h
                refine hs_callV0 hC 23 [_] _ dX21_conditional_54 q3282 q3284 qs207 q335 q3285 np_X21 rfl OB_23 pd_X21_take (Nat.le_of_ble_eq_true rfl) hd1 (hc_M0 (r := r30) (okX21_take l E A (d - 1)  (by omega)  e31 am) z34) rfl ?_
                refine hr_aload_n hC dX21_conditional_57 rfl ?_
                obtain ⟨r35, e36, h⟩ := hx_bind h
                by_cases z39 : r35.1 = 0
                · rw [ht_0 z39] at h
                  refine hs_callV0 hC 23 [] _ dX21_conditional_58 q3239 q3241 qs197 q335 q3242 np_X21 rfl OB_23 pd_X21_conditional (Nat.le_of_ble_eq_true rfl) hd1 (hc_M0 (r := r35) (IH _ _ _ _ e36 am) z39) rfl ?_
                  refine hr_istore hC dX21_conditional_61 (by decide) ?_
                  refine hr_aload_n hC dX21_conditional_63 rfl ?_
                  refine hr_dup hC dX21_conditional_64 rfl ?_
                  refine hr_gI hC F23_16 dX21_conditional_65 q2858 ?_
                  refine hr_iconst (v := 1) hC dX21_conditional_68 rfl ?_
                  refine hr_isub hC dX21_conditional_69 ?_
                  obtain ⟨σ40, hσ40, h⟩ := hl_ok h
                  refine hr_pI hC F23_16 PX21_16 dX21_conditional_70 q2858 ?_
                  rw [← hσ40]
                  refine hr_aload_n hC dX21_conditional_73 rfl ?_
                  refine hr_bipush (v := 8) hC dX21_conditional_74 rfl ?_
                  refine hr_iload_n hC dX21_conditional_76 rfl ?_
                  obtain ⟨r41, e42, h⟩ := hx_bind h
                  refine hs_callV0 hC 23 [_, _] _ dX21_conditional_77 q3194 q3196 qs188 q335 q3197 np_X21 rfl OB_23 pd_X21_make (Nat.le_of_ble_eq_true rfl) hd1 (okX21_make l E A (d - 1)  (by omega)  e42 am) rfl ?_
                  refine hr_istore hC dX21_conditional_80 (by decide) ?_
                  refine hr_aload_n hC dX21_conditional_82 rfl ?_
                  refine hr_gA hC F23_27 rfl dX21_conditional_83 q2869 ?_
                  refine hr_iload hC dX21_conditional_86 rfl ?_
                  refine hr_iconst (v := 1) hC dX21_conditional_88 rfl ?_
                  refine hr_aload_n hC dX21_conditional_89 rfl ?_
                  refine hr_gA hC F23_27 rfl dX21_conditional_90 q2869 ?_
                  refine hr_iload_n hC dX21_conditional_93 rfl ?_
                  obtain ⟨v47, hv47, h⟩ := hl_ok h
                  have J87 : ∀ w88 : Int32, (if 0 ≤ r1.2.1 then r1.2.1 else (((-1)) - r1.2.1)) = w88 → hc_At hc_V0 E 7 X 104 [(0, .ref (E.2.1 23)), (1, .int (gI σ 23 15)), (2, .int r1.2.1), (4, .int r25.2.1), (5, .int r35.2.1), (6, .int r41.1)] [.int w88, .ref (am 23 27), .int 1, .int r41.1, .ref (am 23 27)] r41.2 am [] := by
                    intro w88 hw88
                    obtain rfl := hv47.trans hw88
                    obtain ⟨c48, h⟩ := hk_ok h
                    refine hs_iald hC A23_27 c48 dX21_conditional_104 ?_
                    refine hr_aload_n hC dX21_conditional_105 rfl ?_
                    refine hr_gA hC F23_27 rfl dX21_conditional_106 q2869 ?_
                    refine hr_iload hC dX21_conditional_109 rfl ?_
                    obtain ⟨c49, h⟩ := hk_ok h
                    refine hs_iald hC A23_27 c49 dX21_conditional_111 ?_
                    refine hr_aload_n hC dX21_conditional_112 rfl ?_
                    refine hr_gA hC F23_27 rfl dX21_conditional_113 q2869 ?_
                    refine hr_iload hC dX21_conditional_116 rfl ?_
                    obtain ⟨v52, hv52, h⟩ := hl_ok h
                    have J84 : ∀ w85 : Int32, (if 0 ≤ r35.2.1 then r35.2.1 else (((-1)) - r35.2.1)) = w85 → hc_At hc_V0 E 7 X 130 [(0, .ref (E.2.1 23)), (1, .int (gI σ 23 15)), (2, .int r1.2.1), (4, .int r25.2.1), (5, .int r35.2.1), (6, .int r41.1)] [.int w85, .ref (am 23 27), .int (gC r41.2 23 27 r25.2.1), .int (gC r41.2 23 27 v47), .int 1, .int r41.1, .ref (am 23 27)] r41.2 am [] := by
                      intro w85 hw85
                      obtain rfl := hv52.trans hw85
                      obtain ⟨c53, h⟩ := hk_ok h
                      refine hs_iald hC A23_27 c53 dX21_conditional_130 ?_
                      obtain ⟨r54, e55, h⟩ := hx_bind h
                      refine hs_callS0 hC [_, _] _ dX21_conditional_131 q3275 q3276 q335 q3277 np_X21 rfl pd_X21_deeper (Nat.le_of_ble_eq_true rfl) hd1 (okX21_deeper l E A (d - 1)  (by omega)  e55 am) rfl ?_
                      obtain ⟨r58, e59, h⟩ := hx_bind h
                      refine hs_callS0 hC [_, _] _ dX21_conditional_134 q3275 q3276 q335 q3277 np_X21 rfl pd_X21_deeper (Nat.le_of_ble_eq_true rfl) hd1 (okX21_deeper l E A (d - 1)  (by omega)  e59 am) rfl ?_
                      refine hr_iadd hC dX21_conditional_137 ?_
                      obtain ⟨c62, h⟩ := hk_ok h
                      obtain ⟨σ63, hσ63, h⟩ := hl_ok h
                      refine hs_iast hC A23_27 c62 dX21_conditional_138 ?_
                      rw [← hσ63]
                      refine hr_aload_n hC dX21_conditional_139 rfl ?_
                      refine hr_gA hC F23_20 rfl dX21_conditional_140 q2862 ?_
                      refine hr_iload hC dX21_conditional_143 rfl ?_
                      refine hr_iload_n hC dX21_conditional_145 rfl ?_
                      obtain ⟨c64, h⟩ := hk_ok h
                      obtain ⟨σ65, hσ65, h⟩ := hl_ok h
                      refine hs_iast hC A23_20 c64 dX21_conditional_146 ?_
                      rw [← hσ65]
                      refine hr_aload_n hC dX21_conditional_147 rfl ?_
                      refine hr_gA hC F23_21 rfl dX21_conditional_148 q2863 ?_
                      refine hr_iload hC dX21_conditional_151 rfl ?_
                      refine hr_iload_n hC dX21_conditional_153 rfl ?_
                      obtain ⟨v68, hv68, h⟩ := hl_ok h
                      have J81 : ∀ w82 : Int32, (if 0 ≤ r1.2.1 then r1.2.1 else (((-1)) - r1.2.1)) = w82 → hc_At hc_V0 E 7 X 164 [(0, .ref (E.2.1 23)), (4, .int r25.2.1), (5, .int r35.2.1), (6, .int r41.1)] [.int w82, .int r41.1, .ref (am 23 21)] σ65 am [] := by
                        intro w82 hw82
                        obtain rfl := hv68.trans hw82
                        obtain ⟨c69, h⟩ := hk_ok h
                        obtain ⟨σ70, hσ70, h⟩ := hl_ok h
                        refine hs_iast hC A23_21 c69 dX21_conditional_164 ?_
                        rw [← hσ70]
                        refine hr_aload_n hC dX21_conditional_165 rfl ?_
                        refine hr_gA hC F23_22 rfl dX21_conditional_166 q2864 ?_
                        refine hr_iload hC dX21_conditional_169 rfl ?_
                        refine hr_iload hC dX21_conditional_171 rfl ?_
                        obtain ⟨c71, h⟩ := hk_ok h
                        obtain ⟨σ72, hσ72, h⟩ := hl_ok h
                        refine hs_iast hC A23_22 c71 dX21_conditional_173 ?_
                        rw [← hσ72]
                        refine hr_aload_n hC dX21_conditional_174 rfl ?_
                        refine hr_gA hC F23_23 rfl dX21_conditional_175 q2865 ?_
                        refine hr_iload hC dX21_conditional_178 rfl ?_
                        refine hr_iload hC dX21_conditional_180 rfl ?_
                        obtain ⟨v75, hv75, h⟩ := hl_ok h
                        have J78 : ∀ w79 : Int32, (if 0 ≤ r35.2.1 then r35.2.1 else (((-1)) - r35.2.1)) = w79 → hc_At hc_V0 E 7 X 194 [(6, .int r41.1)] [.int w79, .int r41.1, .ref (am 23 23)] σ72 am [] := by
                          intro w79 hw79
                          obtain rfl := hv75.trans hw79
                          obtain ⟨c76, h⟩ := hk_ok h
                          obtain ⟨σ77, hσ77, h⟩ := hl_ok h
                          refine hs_iast hC A23_23 c76 dX21_conditional_194 ?_
                          rw [← hσ77]
                          refine hr_iload hC dX21_conditional_195 rfl ?_
                          obtain rfl := Option.some.inj h
                          exact hr_iret hC dX21_conditional_197
                        refine hr_if_ge (x := _) hC 192 dX21_conditional_182 (by decide) (fun c80 => ?_) (fun c80 => ?_)
                        · refine hr_iload hC dX21_conditional_192 rfl ?_
                          exact hr_sub _ rfl (J78 _ (by first | (rw [if_pos c80]; done) | (simp only [if_pos c80]; done) | rfl))
                        · refine hr_iconst (v := (-1)) hC dX21_conditional_185 rfl ?_
                          refine hr_iload hC dX21_conditional_186 rfl ?_
                          refine hr_isub hC dX21_conditional_188 ?_
                          refine hr_goto hC 194 dX21_conditional_189 (by decide) ?_
                          exact hr_sub _ rfl (J78 _ (by first | (rw [if_neg c80]; done) | (simp only [if_neg c80]; done) | rfl))
                      refine hr_if_ge (x := _) hC 163 dX21_conditional_154 (by decide) (fun c83 => ?_) (fun c83 => ?_)
                      · refine hr_iload_n hC dX21_conditional_163 rfl ?_
                        exact hr_sub _ rfl (J81 _ (by first | (rw [if_pos c83]; done) | (simp only [if_pos c83]; done) | rfl))
                      · refine hr_iconst (v := (-1)) hC dX21_conditional_157 rfl ?_
                        refine hr_iload_n hC dX21_conditional_158 rfl ?_
                        refine hr_isub hC dX21_conditional_159 ?_
                        refine hr_goto hC 164 dX21_conditional_160 (by decide) ?_
                        exact hr_sub _ rfl (J81 _ (by first | (rw [if_neg c83]; done) | (simp only [if_neg c83]; done) | rfl))
                    refine hr_if_ge (x := _) hC 128 dX21_conditional_118 (by decide) (fun c86 => ?_) (fun c86 => ?_)
                    · refine hr_iload hC dX21_conditional_128 rfl ?_
                      exact hr_sub _ rfl (J84 _ (by first | (rw [if_pos c86]; done) | (simp only [if_pos c86]; done) | rfl))
                    · refine hr_iconst (v := (-1)) hC dX21_conditional_121 rfl ?_
                      refine hr_iload hC dX21_conditional_122 rfl ?_
                      refine hr_isub hC dX21_conditional_124 ?_
                      refine hr_goto hC 130 dX21_conditional_125 (by decide) ?_
                      exact hr_sub _ rfl (J84 _ (by first | (rw [if_neg c86]; done) | (simp only [if_neg c86]; done) | rfl))
                  refine hr_if_ge (x := _) hC 103 dX21_conditional_94 (by decide) (fun c89 => ?_) (fun c89 => ?_)
                  · refine hr_iload_n hC dX21_conditional_103 rfl ?_
                    exact hr_sub _ rfl (J87 _ (by first | (rw [if_pos c89]; done) | (simp only [if_pos c89]; done) | rfl))
                  · refine hr_iconst (v := (-1)) hC dX21_conditional_97 rfl ?_
                    refine hr_iload_n hC dX21_conditional_98 rfl ?_
                    refine hr_isub hC dX21_conditional_99 ?_
                    refine hr_goto hC 104 dX21_conditional_100 (by decide) ?_
                    exact hr_sub _ rfl (J87 _ (by first | (rw [if_neg c89]; done) | (simp only [if_neg c89]; done) | rfl))
                · rw [ht_1 z39] at h
                  obtain rfl := Option.some.inj h
                  exact hs_callVx (HX z39) hem 23 [] _ dX21_conditional_58 q3239 q3241 qs197 q335 q3242 np_X21 rfl OB_23 pd_X21_conditional (Nat.le_of_ble_eq_true rfl) hd1 (hc_M1 (r := r35) (IH _ _ _ _ e36 am) z39) (hc_rb rfl) rfl
              · rw [ht_1 z34] at h
                obtain rfl := Option.some.inj h
                exact hs_callVx (HX z34) hem 23 [_] _ dX21_conditional_54 q3282 q3284 qs207 q335 q3285 np_X21 rfl OB_23 pd_X21_take (Nat.le_of_ble_eq_true rfl) hd1 (hc_M1 (r := r30) (okX21_take l E A (d - 1)  (by omega)  e31 am) z34) (hc_rb rfl) rfl
            · rw [ht_1 z29] at h
              obtain rfl := Option.some.inj h
              exact hs_callVx (HX z29) hem 23 [] _ dX21_conditional_46 q3263 q3265 qs203 q335 q3266 np_X21 rfl OB_23 pd_X21_expression (Nat.le_of_ble_eq_true rfl) hd1 (hc_M1 (r := r25) (IH _ _ _ _ e26 am) z29) (hc_rb rfl) rfl
          · rw [ht_1 z24] at h
            obtain rfl := Option.some.inj h
            exact hs_callVx (HX z24) hem 23 [] _ dX21_conditional_42 q3223 q3225 qs193 q335 q3226 np_X21 rfl OB_23 pd_X21_opens (Nat.le_of_ble_eq_true rfl) hd1 (hc_M1 (r := r20) (okX21_opens l E A (d - 1)  (by omega)  e21 am) z24) (hc_rb rfl) rfl
        · rw [ht_1 z19] at h
          obtain rfl := Option.some.inj h
          exact hs_callVx (HX z19) hem 23 [_] _ dX21_conditional_38 q3271 q3273 qs205 q335 q3274 np_X21 rfl OB_23 pd_X21_stands_2 (Nat.le_of_ble_eq_true rfl) hd1 (hc_M1 (r := r15) (okX21_stands_2 l E A (d - 1)  (by omega)  e16 am) z19) (hc_rb rfl) rfl
      refine hr_if_ge (x := _) hC 37 dX21_conditional_28 (by decide) (fun c92 => ?_) (fun c92 => ?_)
      · refine hr_iload_n hC dX21_conditional_37 rfl ?_
        exact hr_sub _ rfl (J90 _ (by first | (rw [if_pos c92]; done) | (simp only [if_pos c92]; done) | rfl))
      · refine hr_iconst (v := (-1)) hC dX21_conditional_31 rfl ?_
        refine hr_iload_n hC dX21_conditional_32 rfl ?_
        refine hr_isub hC dX21_conditional_33 ?_
        refine hr_goto hC 38 dX21_conditional_34 (by decide) ?_
        exact hr_sub _ rfl (J90 _ (by first | (rw [if_neg c92]; done) | (simp only [if_neg c92]; done) | rfl))
    · rw [if_pos c11] at h
      refine hr_iload_n hC dX21_conditional_19 rfl ?_
      obtain rfl := Option.some.inj h
      exact hr_iret hC dX21_conditional_20
  · rw [ht_1 z5] at h
    obtain rfl := Option.some.inj h
    exact hs_callVx (HX z5) hem 23 [] _ dX21_conditional_6 q3243 q3245 qs198 q335 q3246 np_X21 rfl OB_23 pd_X21_binary (Nat.le_of_ble_eq_true rfl) hd1 (hc_M1 (r := r1) (IH _ _ _ _ e2 am) z5) (hc_rb rfl) rfl
def lp_X21_binary_29 (n : Nat) (k0 : Nat) (rec : Nat → List Int32 → hc_St → Option (Nat × Int32 × hc_St)) : Nat → Int32 → Int32 → Int32 → Int32 → hc_St → Option (hc_St × Int32)
  | 0, _, _, _, _, _ => none
  | m + 1, y1, y2, y3, y4, σ => if (gI σ 23 30) ≤ y1 then (some (σ, y2)) else (hk (inb ((((gI σ 23 30)) - 1)) (gL σ 23 31)) <| if (gC σ 23 31 ((((gI σ 23 30)) - 1))) < y4 then (some (σ, y2)) else (Option.bind (fm_X21_settle n y2 σ) fun r17 => lp_X21_binary_29 n k0 rec m y1 r17.1 y3 y4 r17.2))
def lp_X21_binary_22 (n : Nat) (k0 : Nat) (rec : Nat → List Int32 → hc_St → Option (Nat × Int32 × hc_St)) : Nat → Int32 → Int32 → Int32 → Int32 → hc_St → Option (Nat × hc_St × Int32 × Int32)
  | 0, _, _, _, _, _ => none
  | m + 1, y1, y2, y3, y4, σ => if y4 ≤ 0 then (some (0, σ, y2, y3)) else (Option.bind (lp_X21_binary_29 n k0 rec n y1 y2 0 y4 σ) fun r21 => hk (inb ((gI r21.1 23 30)) (gL r21.1 23 31)) <| hl (pC r21.1 23 31 ((gI r21.1 23 30)) y4) fun σ27 => hk (inb ((gI σ27 23 30)) (gL σ27 23 32)) <| hl (pC σ27 23 32 ((gI σ27 23 30)) ((gI σ27 23 15))) fun σ29 => hk (inb ((gI σ29 23 30)) (gL σ29 23 33)) <| hl (pC σ29 23 33 ((gI σ29 23 30)) r21.2) fun σ31 => Option.bind (fm_X21_stands_2 r21.2 σ31) fun r32 => hv r32 (0, 0) <| Option.bind (fm_X21_opens  r32.2.2) fun r37 => hv r37 (0, 0) <| hl (pI r37.2.2 23 30 ((((gI r37.2.2 23 30)) + 1))) fun σ42 => Option.bind (rec 2 [] σ42) fun r43 => hv r43 (0, 0) <| Option.bind (fm_X21_rank ((gI r43.2.2 23 15)) r43.2.2) fun r48 => lp_X21_binary_22 n k0 rec m y1 r43.2.1 0 r48 r43.2.2)
def lp_X21_binary_133 (n : Nat) (k0 : Nat) (rec : Nat → List Int32 → hc_St → Option (Nat × Int32 × hc_St)) : Nat → Int32 → Int32 → Int32 → hc_St → Option (hc_St × Int32)
  | 0, _, _, _, _ => none
  | m + 1, y1, y2, y3, σ => if (gI σ 23 30) ≤ y1 then (some (σ, y2)) else (Option.bind (fm_X21_settle n y2 σ) fun r59 => lp_X21_binary_133 n k0 rec m y1 r59.1 y3 r59.2)
/-- HomeCompilerModel.binary()I -/
def bd_X21_binary (n : Nat) (k0 : Nat) (rec : Nat → List Int32 → hc_St → Option (Nat × Int32 × hc_St))  (σ : hc_St) : Option (Nat × Int32 × hc_St) := Option.bind (rec 2 [] σ) fun r1 => ht r1 <| Option.bind (fm_X21_rank ((gI r1.2.2 23 15)) r1.2.2) fun r6 => Option.bind (lp_X21_binary_22 n k0 rec n ((gI σ 23 30)) r1.2.1 1 r6 r1.2.2) fun r52 => hu r52 <| Option.bind (lp_X21_binary_133 n k0 rec n ((gI σ 23 30)) r52.2.2.1 r52.2.2.2 r52.2.1) fun r63 => hl (α := Int32) ((if r52.2.2.2 = 0 then r63.2 else (((-1)) - r63.2))) fun v70 => some (0, v70, r63.1)
set_option maxRecDepth 20000 in
set_option maxHeartbeats 4000000 in
theorem ll_X21_binary_29 {l : Launch} {E : hc_E} {A : Nat → Prop} {am : Nat → Nat → Nat} {d : Nat} {kk : Nat} {X : hc_X} (n : Nat) (k0 : Nat) (rec : Nat → List Int32 → hc_St → Option (Nat × Int32 × hc_St)) (hD : kk + 16 ≤ d) (hem : X.2.2.2.2.2.2.2.2.2.1.exceptionTable.isEmpty = true) (IH : ∀ (w : Nat) (a : List Int32) (σ : hc_St) (r : (Nat × Int32 × hc_St)), rec w a σ = some r → ∀ am, okg_X21_conditional l E A (d - 1) am w a σ r) {oc : hc_Oc} {σe : hc_St} (hC : hc_C hc_V0 E cX21_binary 5 RX21 (some .int) d oc σe (l, A, am, []) X) : ∀ (m : Nat) (σ : hc_St) (y1 : Int32) (y2 : Int32) (y3 : Int32) (y4 : Int32) (rl : hc_St × Int32) (am1 : Nat → Nat → Nat), lp_X21_binary_29 n k0 rec m y1 y2 y3 y4 σ = some rl → (hc_At hc_V0 E 5 X 62 [(0, .ref (E.2.1 23)), (1, .int y1), (2, .int rl.2), (3, .int y3), (4, .int y4)] [] rl.1 am1 []) → hc_At hc_V0 E 5 X 29 [(0, .ref (E.2.1 23)), (1, .int y1), (2, .int y2), (3, .int y3), (4, .int y4)] [] σ am1 [] := by
  have hd1 : 1 ≤ d := by omega
  have hd8 : 9 ≤ d := by omega
  have hd12 : 12 ≤ d := by omega
  intro m
  induction m with
  | zero =>
    intro σ y1 y2 y3 y4 rl am1 h
    cases h
  | succ m ih =>
    intro σ y1 y2 y3 y4 rl am1 h JX
    rw [lp_X21_binary_29] at h
    refine hr_aload_n hC dX21_binary_29 rfl ?_
    refine hr_gI hC F23_30 dX21_binary_30 q2872 ?_
    refine hr_iload_n hC dX21_binary_33 rfl ?_
    refine hr_icmp_le (x := _) hC 62 dX21_binary_34 (by decide) (fun c13 => ?_) (fun c13 => ?_)
    · rw [if_pos c13] at h
      obtain rfl := Option.some.inj h
      exact hr_sub _ rfl (JX)
    · rw [if_neg c13] at h
      refine hr_aload_n hC dX21_binary_37 rfl ?_
      refine hr_gA hC F23_31 rfl dX21_binary_38 q2873 ?_
      refine hr_aload_n hC dX21_binary_41 rfl ?_
      refine hr_gI hC F23_30 dX21_binary_42 q2872 ?_
      refine hr_iconst (v := 1) hC dX21_binary_45 rfl ?_
      refine hr_isub hC dX21_binary_46 ?_
      obtain ⟨c14, h⟩ := hk_ok h
      refine hs_iald hC A23_31 c14 dX21_binary_47 ?_
      refine hr_iload hC dX21_binary_48 rfl ?_
      refine hr_icmp_lt (x := _) hC 62 dX21_binary_50 (by decide) (fun c16 => ?_) (fun c16 => ?_)
      · rw [if_pos c16] at h
        obtain rfl := Option.some.inj h
        exact hr_sub _ rfl (JX)
      · rw [if_neg c16] at h
        refine hr_aload_n hC dX21_binary_53 rfl ?_
        refine hr_iload_n hC dX21_binary_54 rfl ?_
        obtain ⟨r17, e18, h⟩ := hx_bind h
        refine hs_callV0 hC 23 [_] _ dX21_binary_55 q3298 q3300 qs211 q335 q3301 np_X21 rfl OB_23 pd_X21_settle (Nat.le_of_ble_eq_true rfl) hd1 (okX21_settle l E A (d - 1) n (by omega)  e18 am1) rfl ?_
        refine hr_istore_n hC dX21_binary_58 (by decide) ?_
        refine hr_goto hC 29 dX21_binary_59 (by decide) ?_
        exact hr_sub _ rfl (ih _ _ _ _ _ _ am1 h JX)
set_option maxRecDepth 20000 in
set_option maxHeartbeats 4000000 in
theorem ll_X21_binary_22 {l : Launch} {E : hc_E} {A : Nat → Prop} {am : Nat → Nat → Nat} {d : Nat} {kk : Nat} {X : hc_X} (n : Nat) (k0 : Nat) (rec : Nat → List Int32 → hc_St → Option (Nat × Int32 × hc_St)) (hD : kk + 16 ≤ d) (hem : X.2.2.2.2.2.2.2.2.2.1.exceptionTable.isEmpty = true) (IH : ∀ (w : Nat) (a : List Int32) (σ : hc_St) (r : (Nat × Int32 × hc_St)), rec w a σ = some r → ∀ am, okg_X21_conditional l E A (d - 1) am w a σ r) {oc : hc_Oc} {σe : hc_St} (hC : hc_C hc_V0 E cX21_binary 5 RX21 (some .int) d oc σe (l, A, am, []) X) : ∀ (m : Nat) (σ : hc_St) (y1 : Int32) (y2 : Int32) (y3 : Int32) (y4 : Int32) (rl : Nat × hc_St × Int32 × Int32) (am1 : Nat → Nat → Nat), lp_X21_binary_22 n k0 rec m y1 y2 y3 y4 σ = some rl → (rl.1 = 0 → hc_At hc_V0 E 5 X 133 [(0, .ref (E.2.1 23)), (1, .int y1), (2, .int rl.2.2.1), (3, .int rl.2.2.2)] [] rl.2.1 am1 []) → (rl.1 ≠ 0 → hc_C hc_V0 E cX21_binary 5 RX21 (some .int) d (.inr rl.1) rl.2.1 (l, A, am, []) X) → hc_At hc_V0 E 5 X 22 [(0, .ref (E.2.1 23)), (1, .int y1), (2, .int y2), (3, .int y3), (4, .int y4)] [] σ am1 [] := by
  have hd1 : 1 ≤ d := by omega
  have hd8 : 9 ≤ d := by omega
  have hd12 : 12 ≤ d := by omega
  intro m
  induction m with
  | zero =>
    intro σ y1 y2 y3 y4 rl am1 h
    cases h
  | succ m ih =>
    intro σ y1 y2 y3 y4 rl am1 h JX HX
    rw [lp_X21_binary_22] at h
    refine hr_iload hC dX21_binary_22 rfl ?_
    refine hr_if_le (x := _) hC 133 dX21_binary_24 (by decide) (fun c11 => ?_) (fun c11 => ?_)
    · rw [if_pos c11] at h
      obtain rfl := Option.some.inj h
      exact hr_sub _ rfl (JX rfl)
    · rw [if_neg c11] at h
      refine hr_iconst (v := 0) hC dX21_binary_27 rfl ?_
      refine hr_istore_n hC dX21_binary_28 (by decide) ?_
      obtain ⟨r21, e22, h⟩ := hx_bind h
      refine hr_sub _ rfl (ll_X21_binary_29 n k0 rec hD hem IH hC n _ _ _ _ _ _ am1 e22 ?_)
      refine hr_aload_n hC dX21_binary_62 rfl ?_
      refine hr_gA hC F23_31 rfl dX21_binary_63 q2873 ?_
      refine hr_aload_n hC dX21_binary_66 rfl ?_
      refine hr_gI hC F23_30 dX21_binary_67 q2872 ?_
      refine hr_iload hC dX21_binary_70 rfl ?_
      obtain ⟨c26, h⟩ := hk_ok h
      obtain ⟨σ27, hσ27, h⟩ := hl_ok h
      refine hs_iast hC A23_31 c26 dX21_binary_72 ?_
      rw [← hσ27]
      refine hr_aload_n hC dX21_binary_73 rfl ?_
      refine hr_gA hC F23_32 rfl dX21_binary_74 q2874 ?_
      refine hr_aload_n hC dX21_binary_77 rfl ?_
      refine hr_gI hC F23_30 dX21_binary_78 q2872 ?_
      refine hr_aload_n hC dX21_binary_81 rfl ?_
      refine hr_gI hC F23_15 dX21_binary_82 q2857 ?_
      obtain ⟨c28, h⟩ := hk_ok h
      obtain ⟨σ29, hσ29, h⟩ := hl_ok h
      refine hs_iast hC A23_32 c28 dX21_binary_85 ?_
      rw [← hσ29]
      refine hr_aload_n hC dX21_binary_86 rfl ?_
      refine hr_gA hC F23_33 rfl dX21_binary_87 q2875 ?_
      refine hr_aload_n hC dX21_binary_90 rfl ?_
      refine hr_gI hC F23_30 dX21_binary_91 q2872 ?_
      refine hr_iload_n hC dX21_binary_94 rfl ?_
      obtain ⟨c30, h⟩ := hk_ok h
      obtain ⟨σ31, hσ31, h⟩ := hl_ok h
      refine hs_iast hC A23_33 c30 dX21_binary_95 ?_
      rw [← hσ31]
      refine hr_aload_n hC dX21_binary_96 rfl ?_
      refine hr_iload_n hC dX21_binary_97 rfl ?_
      obtain ⟨r32, e33, h⟩ := hx_bind h
      by_cases z36 : r32.1 = 0
      · rw [hv_0 z36] at h
        refine hs_callV0 hC 23 [_] _ dX21_binary_98 q3271 q3273 qs205 q335 q3274 np_X21 rfl OB_23 pd_X21_stands_2 (Nat.le_of_ble_eq_true rfl) hd1 (hc_M0 (r := r32) (okX21_stands_2 l E A (d - 1)  (by omega)  e33 am1) z36) rfl ?_
        refine hr_aload_n hC dX21_binary_101 rfl ?_
        obtain ⟨r37, e38, h⟩ := hx_bind h
        by_cases z41 : r37.1 = 0
        · rw [hv_0 z41] at h
          refine hs_callV0 hC 23 [] _ dX21_binary_102 q3223 q3225 qs193 q335 q3226 np_X21 rfl OB_23 pd_X21_opens (Nat.le_of_ble_eq_true rfl) hd1 (hc_M0 (r := r37) (okX21_opens l E A (d - 1)  (by omega)  e38 am1) z41) rfl ?_
          refine hr_aload_n hC dX21_binary_105 rfl ?_
          refine hr_dup hC dX21_binary_106 rfl ?_
          refine hr_gI hC F23_30 dX21_binary_107 q2872 ?_
          refine hr_iconst (v := 1) hC dX21_binary_110 rfl ?_
          refine hr_iadd hC dX21_binary_111 ?_
          obtain ⟨σ42, hσ42, h⟩ := hl_ok h
          refine hr_pI hC F23_30 PX21_30 dX21_binary_112 q2872 ?_
          rw [← hσ42]
          refine hr_aload_n hC dX21_binary_115 rfl ?_
          obtain ⟨r43, e44, h⟩ := hx_bind h
          by_cases z47 : r43.1 = 0
          · rw [hv_0 z47] at h
            refine hs_callV0 hC 23 [] _ dX21_binary_116 q3247 q3249 qs199 q335 q3250 np_X21 rfl OB_23 pd_X21_unary (Nat.le_of_ble_eq_true rfl) hd1 (hc_M0 (r := r43) (IH _ _ _ _ e44 am1) z47) rfl ?_
            refine hr_istore_n hC dX21_binary_119 (by decide) ?_
            refine hr_aload_n hC dX21_binary_120 rfl ?_
            refine hr_aload_n hC dX21_binary_121 rfl ?_
            refine hr_gI hC F23_15 dX21_binary_122 q2857 ?_
            obtain ⟨r48, e49, h⟩ := hx_bind h
            refine hs_callV0 hC 23 [_] _ dX21_binary_125 q3294 q3296 qs210 q335 q3297 np_X21 rfl OB_23 pd_X21_rank (Nat.le_of_ble_eq_true rfl) hd1 (okX21_rank l E A (d - 1)  (by omega)  e49 am1) rfl ?_
            refine hr_istore hC dX21_binary_128 (by decide) ?_
            refine hr_goto hC 22 dX21_binary_130 (by decide) ?_
            exact hr_sub _ rfl (ih _ _ _ _ _ _ am1 h JX HX)
          · rw [hv_1 z47] at h
            obtain rfl := Option.some.inj h
            exact hs_callVx (HX z47) hem 23 [] _ dX21_binary_116 q3247 q3249 qs199 q335 q3250 np_X21 rfl OB_23 pd_X21_unary (Nat.le_of_ble_eq_true rfl) hd1 (hc_M1 (r := r43) (IH _ _ _ _ e44 am1) z47) (hc_rb rfl) rfl
        · rw [hv_1 z41] at h
          obtain rfl := Option.some.inj h
          exact hs_callVx (HX z41) hem 23 [] _ dX21_binary_102 q3223 q3225 qs193 q335 q3226 np_X21 rfl OB_23 pd_X21_opens (Nat.le_of_ble_eq_true rfl) hd1 (hc_M1 (r := r37) (okX21_opens l E A (d - 1)  (by omega)  e38 am1) z41) (hc_rb rfl) rfl
      · rw [hv_1 z36] at h
        obtain rfl := Option.some.inj h
        exact hs_callVx (HX z36) hem 23 [_] _ dX21_binary_98 q3271 q3273 qs205 q335 q3274 np_X21 rfl OB_23 pd_X21_stands_2 (Nat.le_of_ble_eq_true rfl) hd1 (hc_M1 (r := r32) (okX21_stands_2 l E A (d - 1)  (by omega)  e33 am1) z36) (hc_rb rfl) rfl
set_option maxRecDepth 20000 in
set_option maxHeartbeats 4000000 in
theorem ll_X21_binary_133 {l : Launch} {E : hc_E} {A : Nat → Prop} {am : Nat → Nat → Nat} {d : Nat} {kk : Nat} {X : hc_X} (n : Nat) (k0 : Nat) (rec : Nat → List Int32 → hc_St → Option (Nat × Int32 × hc_St)) (hD : kk + 16 ≤ d) (hem : X.2.2.2.2.2.2.2.2.2.1.exceptionTable.isEmpty = true) (IH : ∀ (w : Nat) (a : List Int32) (σ : hc_St) (r : (Nat × Int32 × hc_St)), rec w a σ = some r → ∀ am, okg_X21_conditional l E A (d - 1) am w a σ r) {oc : hc_Oc} {σe : hc_St} (hC : hc_C hc_V0 E cX21_binary 5 RX21 (some .int) d oc σe (l, A, am, []) X) : ∀ (m : Nat) (σ : hc_St) (y1 : Int32) (y2 : Int32) (y3 : Int32) (rl : hc_St × Int32) (am1 : Nat → Nat → Nat), lp_X21_binary_133 n k0 rec m y1 y2 y3 σ = some rl → (hc_At hc_V0 E 5 X 150 [(2, .int rl.2), (3, .int y3)] [] rl.1 am1 []) → hc_At hc_V0 E 5 X 133 [(0, .ref (E.2.1 23)), (1, .int y1), (2, .int y2), (3, .int y3)] [] σ am1 [] := by
  have hd1 : 1 ≤ d := by omega
  have hd8 : 9 ≤ d := by omega
  have hd12 : 12 ≤ d := by omega
  intro m
  induction m with
  | zero =>
    intro σ y1 y2 y3 rl am1 h
    cases h
  | succ m ih =>
    intro σ y1 y2 y3 rl am1 h JX
    rw [lp_X21_binary_133] at h
    refine hr_aload_n hC dX21_binary_133 rfl ?_
    refine hr_gI hC F23_30 dX21_binary_134 q2872 ?_
    refine hr_iload_n hC dX21_binary_137 rfl ?_
    refine hr_icmp_le (x := _) hC 150 dX21_binary_138 (by decide) (fun c58 => ?_) (fun c58 => ?_)
    · rw [if_pos c58] at h
      obtain rfl := Option.some.inj h
      exact hr_sub _ rfl (JX)
    · rw [if_neg c58] at h
      refine hr_aload_n hC dX21_binary_141 rfl ?_
      refine hr_iload_n hC dX21_binary_142 rfl ?_
      obtain ⟨r59, e60, h⟩ := hx_bind h
      refine hs_callV0 hC 23 [_] _ dX21_binary_143 q3298 q3300 qs211 q335 q3301 np_X21 rfl OB_23 pd_X21_settle (Nat.le_of_ble_eq_true rfl) hd1 (okX21_settle l E A (d - 1) n (by omega)  e60 am1) rfl ?_
      refine hr_istore_n hC dX21_binary_146 (by decide) ?_
      refine hr_goto hC 133 dX21_binary_147 (by decide) ?_
      exact hr_sub _ rfl (ih _ _ _ _ _ am1 h JX)
set_option maxRecDepth 20000 in
set_option maxHeartbeats 4000000 in
theorem okbX21_binary (l : Launch) (E : hc_E) (A : Nat → Prop) (d : Nat) {kk : Nat} (n : Nat) (k0 : Nat) (rec : Nat → List Int32 → hc_St → Option (Nat × Int32 × hc_St)) (hD : kk + 16 ≤ d) (IH : ∀ (w : Nat) (a : List Int32) (σ : hc_St) (r : (Nat × Int32 × hc_St)), rec w a σ = some r → ∀ am, okg_X21_conditional l E A (d - 1) am w a σ r)  {σ : hc_St} {r : (Nat × Int32 × hc_St)} (h : bd_X21_binary n k0 rec  σ = some r) (am : Nat → Nat → Nat) : hc_M l hc_V0 yX21_binary (ws_ yX21_binary cX21_binary 5 (some .int)) d E A [.ref (E.2.1 23)] am [] σ (hc_ot (fun v => some (.int v)) r) r.2.2 := by
  have hd1 : 1 ≤ d := by omega
  have hd8 : 9 ≤ d := by omega
  have hd12 : 12 ≤ d := by omega
  refine hc_enter2 (own := RX21) [(0, .ref (E.2.1 23))] pl_X21 rfl hc_V0_st hc_G0_nd rfl (Nat.le_of_ble_eq_true rfl) (fun X hC hem => ?_)
  have HX := fun z => hc_CX hC z
  unfold bd_X21_binary at h
  refine hr_aload_n hC dX21_binary_0 rfl ?_
  refine hr_gI hC F23_30 dX21_binary_1 q2872 ?_
  refine hr_istore_n hC dX21_binary_4 (by decide) ?_
  refine hr_aload_n hC dX21_binary_5 rfl ?_
  obtain ⟨r1, e2, h⟩ := hx_bind h
  by_cases z5 : r1.1 = 0
  · rw [ht_0 z5] at h
    refine hs_callV0 hC 23 [] _ dX21_binary_6 q3247 q3249 qs199 q335 q3250 np_X21 rfl OB_23 pd_X21_unary (Nat.le_of_ble_eq_true rfl) hd1 (hc_M0 (r := r1) (IH _ _ _ _ e2 am) z5) rfl ?_
    refine hr_istore_n hC dX21_binary_9 (by decide) ?_
    refine hr_iconst (v := 1) hC dX21_binary_10 rfl ?_
    refine hr_istore_n hC dX21_binary_11 (by decide) ?_
    refine hr_aload_n hC dX21_binary_12 rfl ?_
    refine hr_aload_n hC dX21_binary_13 rfl ?_
    refine hr_gI hC F23_15 dX21_binary_14 q2857 ?_
    obtain ⟨r6, e7, h⟩ := hx_bind h
    refine hs_callV0 hC 23 [_] _ dX21_binary_17 q3294 q3296 qs210 q335 q3297 np_X21 rfl OB_23 pd_X21_rank (Nat.le_of_ble_eq_true rfl) hd1 (okX21_rank l E A (d - 1)  (by omega)  e7 am) rfl ?_
    refine hr_istore hC dX21_binary_20 (by decide) ?_
    obtain ⟨r52, e53, h⟩ := hx_bind h
    refine hr_sub _ rfl (ll_X21_binary_22 n k0 rec hD hem IH hC n _ _ _ _ _ _ am e53 (fun z55 => ?_) (fun z55 => ?_))
    · rw [hu_0 z55] at h
      obtain ⟨r63, e64, h⟩ := hx_bind h
      refine hr_sub _ rfl (ll_X21_binary_133 n k0 rec hD hem IH hC n _ _ _ _ _ am e64 ?_)
      refine hr_iload_n hC dX21_binary_150 rfl ?_
      obtain ⟨v70, hv70, h⟩ := hl_ok h
      have J71 : ∀ w72 : Int32, (if r52.2.2.2 = 0 then r63.2 else (((-1)) - r63.2)) = w72 → hc_At hc_V0 E 5 X 161 [] [.int w72] r63.1 am [] := by
        intro w72 hw72
        obtain rfl := hv70.trans hw72
        obtain rfl := Option.some.inj h
        exact hr_iret hC dX21_binary_161
      refine hr_if_eq (x := _) hC 160 dX21_binary_151 (by decide) (fun c73 => ?_) (fun c73 => ?_)
      · refine hr_iload_n hC dX21_binary_160 rfl ?_
        exact hr_sub _ rfl (J71 _ (by first | (rw [if_pos c73]; done) | (simp only [if_pos c73]; done) | rfl))
      · refine hr_iconst (v := (-1)) hC dX21_binary_154 rfl ?_
        refine hr_iload_n hC dX21_binary_155 rfl ?_
        refine hr_isub hC dX21_binary_156 ?_
        refine hr_goto hC 161 dX21_binary_157 (by decide) ?_
        exact hr_sub _ rfl (J71 _ (by first | (rw [if_neg c73]; done) | (simp only [if_neg c73]; done) | rfl))
    · rw [hu_1 z55] at h
      obtain rfl := Option.some.inj h
      exact HX z55
  · rw [ht_1 z5] at h
    obtain rfl := Option.some.inj h
    exact hs_callVx (HX z5) hem 23 [] _ dX21_binary_6 q3247 q3249 qs199 q335 q3250 np_X21 rfl OB_23 pd_X21_unary (Nat.le_of_ble_eq_true rfl) hd1 (hc_M1 (r := r1) (IH _ _ _ _ e2 am) z5) (hc_rb rfl) rfl
def lp_X21_unary_7 (n : Nat) (k0 : Nat) (rec : Nat → List Int32 → hc_St → Option (Nat × Int32 × hc_St)) : Nat → Int32 → Int32 → hc_St → Option (Nat × hc_St × Int32)
  | 0, _, _, _ => none
  | m + 1, y1, y2, σ => Option.bind (fm_X21_isPrefix  σ) fun r1 => if r1 = 0 then (some (0, σ, y2)) else (Option.bind (fm_X21_opens  σ) fun r7 => hv r7 (0) <| lp_X21_unary_7 n k0 rec m y1 ((y2 + 1)) r7.2.2)
def lp_X21_unary_36 (n : Nat) (k0 : Nat) (rec : Nat → List Int32 → hc_St → Option (Nat × Int32 × hc_St)) : Nat → Int32 → Int32 → Int32 → Int32 → hc_St → Option (hc_St × Int32)
  | 0, _, _, _, _, _ => none
  | m + 1, y1, y2, y3, y4, σ => if y4 < y1 then (some (σ, y3)) else (Option.bind (fm_X21_make 5 y4 σ) fun r24 => Option.bind (fm_X21_isNothing y4 r24.2) fun r28 => Option.bind (α := Int32) (if r28 = 0 then (hk (inb y3 (gL r24.2 23 27)) <| some ((1 + ((gC r24.2 23 27 y3))))) else (hk (inb y3 (gL r24.2 23 27)) <| some ((gC r24.2 23 27 y3)))) fun r34 => hk (inb r24.1 (gL r24.2 23 27)) <| hl (pC r24.2 23 27 r24.1 r34) fun σ41 => hk (inb r24.1 (gL σ41 23 21)) <| hl (pC σ41 23 21 r24.1 y3) fun σ43 => lp_X21_unary_36 n k0 rec m y1 y2 r24.1 ((y4 + (-1))) σ43)
/-- HomeCompilerModel.unary()I -/
def bd_X21_unary (n : Nat) (k0 : Nat) (rec : Nat → List Int32 → hc_St → Option (Nat × Int32 × hc_St))  (σ : hc_St) : Option (Nat × Int32 × hc_St) := Option.bind (lp_X21_unary_7 n k0 rec n ((gI σ 23 15)) 0 σ) fun r12 => hu r12 <| Option.bind (rec 3 [] r12.2.1) fun r17 => ht r17 <| Option.bind (lp_X21_unary_36 n k0 rec n ((gI σ 23 15)) r12.2.2 r17.2.1 ((((((gI σ 23 15)) + r12.2.2)) - 1)) r17.2.2) fun r44 => hl (pI r44.1 23 16 ((((gI r44.1 23 16)) - r12.2.2))) fun σ49 => some (0, r44.2, σ49)
set_option maxRecDepth 20000 in
set_option maxHeartbeats 4000000 in
theorem ll_X21_unary_7 {l : Launch} {E : hc_E} {A : Nat → Prop} {am : Nat → Nat → Nat} {d : Nat} {kk : Nat} {X : hc_X} (n : Nat) (k0 : Nat) (rec : Nat → List Int32 → hc_St → Option (Nat × Int32 × hc_St)) (hD : kk + 16 ≤ d) (hem : X.2.2.2.2.2.2.2.2.2.1.exceptionTable.isEmpty = true) (IH : ∀ (w : Nat) (a : List Int32) (σ : hc_St) (r : (Nat × Int32 × hc_St)), rec w a σ = some r → ∀ am, okg_X21_conditional l E A (d - 1) am w a σ r) {oc : hc_Oc} {σe : hc_St} (hC : hc_C hc_V0 E cX21_unary 6 RX21 (some .int) d oc σe (l, A, am, []) X) : ∀ (m : Nat) (σ : hc_St) (y1 : Int32) (y2 : Int32) (rl : Nat × hc_St × Int32) (am1 : Nat → Nat → Nat), lp_X21_unary_7 n k0 rec m y1 y2 σ = some rl → (rl.1 = 0 → hc_At hc_V0 E 6 X 24 [(0, .ref (E.2.1 23)), (1, .int y1), (2, .int rl.2.2)] [] rl.2.1 am1 []) → (rl.1 ≠ 0 → hc_C hc_V0 E cX21_unary 6 RX21 (some .int) d (.inr rl.1) rl.2.1 (l, A, am, []) X) → hc_At hc_V0 E 6 X 7 [(0, .ref (E.2.1 23)), (1, .int y1), (2, .int y2)] [] σ am1 [] := by
  have hd1 : 1 ≤ d := by omega
  have hd8 : 9 ≤ d := by omega
  have hd12 : 12 ≤ d := by omega
  intro m
  induction m with
  | zero =>
    intro σ y1 y2 rl am1 h
    cases h
  | succ m ih =>
    intro σ y1 y2 rl am1 h JX HX
    rw [lp_X21_unary_7] at h
    refine hr_aload_n hC dX21_unary_7 rfl ?_
    obtain ⟨r1, e2, h⟩ := hx_bind h
    refine hs_callV0 hC 23 [] _ dX21_unary_8 q3251 q3253 qs200 q335 q3254 np_X21 rfl OB_23 pd_X21_isPrefix (Nat.le_of_ble_eq_true rfl) hd1 (okX21_isPrefix l E A (d - 1)  (by omega)  e2 am1) rfl ?_
    refine hr_if_eq (x := _) hC 24 dX21_unary_11 (by decide) (fun c6 => ?_) (fun c6 => ?_)
    · rw [if_pos c6] at h
      obtain rfl := Option.some.inj h
      exact hr_sub _ rfl (JX rfl)
    · rw [if_neg c6] at h
      refine hr_aload_n hC dX21_unary_14 rfl ?_
      obtain ⟨r7, e8, h⟩ := hx_bind h
      by_cases z11 : r7.1 = 0
      · rw [hv_0 z11] at h
        refine hs_callV0 hC 23 [] _ dX21_unary_15 q3223 q3225 qs193 q335 q3226 np_X21 rfl OB_23 pd_X21_opens (Nat.le_of_ble_eq_true rfl) hd1 (hc_M0 (r := r7) (okX21_opens l E A (d - 1)  (by omega)  e8 am1) z11) rfl ?_
        refine hr_iinc (v := y2 + 1) hC dX21_unary_18 rfl rfl (by decide) ?_
        refine hr_goto hC 7 dX21_unary_21 (by decide) ?_
        exact hr_sub _ rfl (ih _ _ _ _ am1 h JX HX)
      · rw [hv_1 z11] at h
        obtain rfl := Option.some.inj h
        exact hs_callVx (HX z11) hem 23 [] _ dX21_unary_15 q3223 q3225 qs193 q335 q3226 np_X21 rfl OB_23 pd_X21_opens (Nat.le_of_ble_eq_true rfl) hd1 (hc_M1 (r := r7) (okX21_opens l E A (d - 1)  (by omega)  e8 am1) z11) (hc_rb rfl) rfl
set_option maxRecDepth 20000 in
set_option maxHeartbeats 4000000 in
theorem ll_X21_unary_36 {l : Launch} {E : hc_E} {A : Nat → Prop} {am : Nat → Nat → Nat} {d : Nat} {kk : Nat} {X : hc_X} (n : Nat) (k0 : Nat) (rec : Nat → List Int32 → hc_St → Option (Nat × Int32 × hc_St)) (hD : kk + 16 ≤ d) (hem : X.2.2.2.2.2.2.2.2.2.1.exceptionTable.isEmpty = true) (IH : ∀ (w : Nat) (a : List Int32) (σ : hc_St) (r : (Nat × Int32 × hc_St)), rec w a σ = some r → ∀ am, okg_X21_conditional l E A (d - 1) am w a σ r) {oc : hc_Oc} {σe : hc_St} (hC : hc_C hc_V0 E cX21_unary 6 RX21 (some .int) d oc σe (l, A, am, []) X) : ∀ (m : Nat) (σ : hc_St) (y1 : Int32) (y2 : Int32) (y3 : Int32) (y4 : Int32) (rl : hc_St × Int32) (am1 : Nat → Nat → Nat), lp_X21_unary_36 n k0 rec m y1 y2 y3 y4 σ = some rl → (hc_At hc_V0 E 6 X 101 [(0, .ref (E.2.1 23)), (2, .int y2), (3, .int rl.2)] [] rl.1 am1 []) → hc_At hc_V0 E 6 X 36 [(0, .ref (E.2.1 23)), (1, .int y1), (2, .int y2), (3, .int y3), (4, .int y4)] [] σ am1 [] := by
  have hd1 : 1 ≤ d := by omega
  have hd8 : 9 ≤ d := by omega
  have hd12 : 12 ≤ d := by omega
  intro m
  induction m with
  | zero =>
    intro σ y1 y2 y3 y4 rl am1 h
    cases h
  | succ m ih =>
    intro σ y1 y2 y3 y4 rl am1 h JX
    rw [lp_X21_unary_36] at h
    refine hr_iload hC dX21_unary_36 rfl ?_
    refine hr_iload_n hC dX21_unary_38 rfl ?_
    refine hr_icmp_lt (x := _) hC 101 dX21_unary_39 (by decide) (fun c23 => ?_) (fun c23 => ?_)
    · rw [if_pos c23] at h
      obtain rfl := Option.some.inj h
      exact hr_sub _ rfl (JX)
    · rw [if_neg c23] at h
      refine hr_aload_n hC dX21_unary_42 rfl ?_
      refine hr_iconst (v := 5) hC dX21_unary_43 rfl ?_
      refine hr_iload hC dX21_unary_44 rfl ?_
      obtain ⟨r24, e25, h⟩ := hx_bind h
      refine hs_callV0 hC 23 [_, _] _ dX21_unary_46 q3194 q3196 qs188 q335 q3197 np_X21 rfl OB_23 pd_X21_make (Nat.le_of_ble_eq_true rfl) hd1 (okX21_make l E A (d - 1)  (by omega)  e25 am1) rfl ?_
      refine hr_istore hC dX21_unary_49 (by decide) ?_
      refine hr_aload_n hC dX21_unary_51 rfl ?_
      refine hr_gA hC F23_27 rfl dX21_unary_52 q2869 ?_
      refine hr_iload hC dX21_unary_55 rfl ?_
      refine hr_aload_n hC dX21_unary_57 rfl ?_
      refine hr_iload hC dX21_unary_58 rfl ?_
      obtain ⟨r28, e29, h⟩ := hx_bind h
      refine hs_callV0 hC 23 [_] _ dX21_unary_60 q3290 q3292 qs209 q335 q3293 np_X21 rfl OB_23 pd_X21_isNothing (Nat.le_of_ble_eq_true rfl) hd1 (okX21_isNothing l E A (d - 1)  (by omega)  e29 am1) rfl ?_
      obtain ⟨r34, e35, h⟩ := hx_bind h
      have J36 : hc_At hc_V0 E 6 X 83 [(0, .ref (E.2.1 23)), (1, .int y1), (2, .int y2), (3, .int y3), (4, .int y4), (5, .int r24.1)] [.int r34, .int r24.1, .ref (am1 23 27)] r24.2 am1 [] := by
        obtain ⟨c40, h⟩ := hk_ok h
        obtain ⟨σ41, hσ41, h⟩ := hl_ok h
        refine hs_iast hC A23_27 c40 dX21_unary_83 ?_
        rw [← hσ41]
        refine hr_aload_n hC dX21_unary_84 rfl ?_
        refine hr_gA hC F23_21 rfl dX21_unary_85 q2863 ?_
        refine hr_iload hC dX21_unary_88 rfl ?_
        refine hr_iload_n hC dX21_unary_90 rfl ?_
        obtain ⟨c42, h⟩ := hk_ok h
        obtain ⟨σ43, hσ43, h⟩ := hl_ok h
        refine hs_iast hC A23_21 c42 dX21_unary_91 ?_
        rw [← hσ43]
        refine hr_iload hC dX21_unary_92 rfl ?_
        refine hr_istore_n hC dX21_unary_94 (by decide) ?_
        refine hr_iinc (v := y4 + (-1)) hC dX21_unary_95 rfl rfl (by decide) ?_
        refine hr_goto hC 36 dX21_unary_98 (by decide) ?_
        exact hr_sub _ rfl (ih _ _ _ _ _ _ am1 h JX)
      clear h
      have h := e35
      refine hr_if_eq (x := _) hC 75 dX21_unary_63 (by decide) (fun c33 => ?_) (fun c33 => ?_)
      · rw [if_pos c33] at h
        refine hr_iconst (v := 1) hC dX21_unary_75 rfl ?_
        refine hr_aload_n hC dX21_unary_76 rfl ?_
        refine hr_gA hC F23_27 rfl dX21_unary_77 q2869 ?_
        refine hr_iload_n hC dX21_unary_80 rfl ?_
        obtain ⟨c38, h⟩ := hk_ok h
        refine hs_iald hC A23_27 c38 dX21_unary_81 ?_
        refine hr_iadd hC dX21_unary_82 ?_
        obtain rfl := Option.some.inj h
        exact hr_sub _ rfl (J36)
      · rw [if_neg c33] at h
        refine hr_aload_n hC dX21_unary_66 rfl ?_
        refine hr_gA hC F23_27 rfl dX21_unary_67 q2869 ?_
        refine hr_iload_n hC dX21_unary_70 rfl ?_
        obtain ⟨c39, h⟩ := hk_ok h
        refine hs_iald hC A23_27 c39 dX21_unary_71 ?_
        refine hr_goto hC 83 dX21_unary_72 (by decide) ?_
        obtain rfl := Option.some.inj h
        exact hr_sub _ rfl (J36)
set_option maxRecDepth 20000 in
set_option maxHeartbeats 4000000 in
theorem okbX21_unary (l : Launch) (E : hc_E) (A : Nat → Prop) (d : Nat) {kk : Nat} (n : Nat) (k0 : Nat) (rec : Nat → List Int32 → hc_St → Option (Nat × Int32 × hc_St)) (hD : kk + 16 ≤ d) (IH : ∀ (w : Nat) (a : List Int32) (σ : hc_St) (r : (Nat × Int32 × hc_St)), rec w a σ = some r → ∀ am, okg_X21_conditional l E A (d - 1) am w a σ r)  {σ : hc_St} {r : (Nat × Int32 × hc_St)} (h : bd_X21_unary n k0 rec  σ = some r) (am : Nat → Nat → Nat) : hc_M l hc_V0 yX21_unary (ws_ yX21_unary cX21_unary 6 (some .int)) d E A [.ref (E.2.1 23)] am [] σ (hc_ot (fun v => some (.int v)) r) r.2.2 := by
  have hd1 : 1 ≤ d := by omega
  have hd8 : 9 ≤ d := by omega
  have hd12 : 12 ≤ d := by omega
  refine hc_enter2 (own := RX21) [(0, .ref (E.2.1 23))] pl_X21 rfl hc_V0_st hc_G0_nd rfl (Nat.le_of_ble_eq_true rfl) (fun X hC hem => ?_)
  have HX := fun z => hc_CX hC z
  unfold bd_X21_unary at h
  refine hr_aload_n hC dX21_unary_0 rfl ?_
  refine hr_gI hC F23_15 dX21_unary_1 q2857 ?_
  refine hr_istore_n hC dX21_unary_4 (by decide) ?_
  refine hr_iconst (v := 0) hC dX21_unary_5 rfl ?_
  refine hr_istore_n hC dX21_unary_6 (by decide) ?_
  obtain ⟨r12, e13, h⟩ := hx_bind h
  refine hr_sub _ rfl (ll_X21_unary_7 n k0 rec hD hem IH hC n _ _ _ _ am e13 (fun z15 => ?_) (fun z15 => ?_))
  · rw [hu_0 z15] at h
    refine hr_aload_n hC dX21_unary_24 rfl ?_
    obtain ⟨r17, e18, h⟩ := hx_bind h
    by_cases z21 : r17.1 = 0
    · rw [ht_0 z21] at h
      refine hs_callV0 hC 23 [] _ dX21_unary_25 q3255 q3257 qs201 q335 q3258 np_X21 rfl OB_23 pd_X21_postfix (Nat.le_of_ble_eq_true rfl) hd1 (hc_M0 (r := r17) (IH _ _ _ _ e18 am) z21) rfl ?_
      refine hr_istore_n hC dX21_unary_28 (by decide) ?_
      refine hr_iload_n hC dX21_unary_29 rfl ?_
      refine hr_iload_n hC dX21_unary_30 rfl ?_
      refine hr_iadd hC dX21_unary_31 ?_
      refine hr_iconst (v := 1) hC dX21_unary_32 rfl ?_
      refine hr_isub hC dX21_unary_33 ?_
      refine hr_istore hC dX21_unary_34 (by decide) ?_
      obtain ⟨r44, e45, h⟩ := hx_bind h
      refine hr_sub _ rfl (ll_X21_unary_36 n k0 rec hD hem IH hC n _ _ _ _ _ _ am e45 ?_)
      refine hr_aload_n hC dX21_unary_101 rfl ?_
      refine hr_aload_n hC dX21_unary_102 rfl ?_
      refine hr_gI hC F23_16 dX21_unary_103 q2858 ?_
      refine hr_iload_n hC dX21_unary_106 rfl ?_
      refine hr_isub hC dX21_unary_107 ?_
      obtain ⟨σ49, hσ49, h⟩ := hl_ok h
      refine hr_pI hC F23_16 PX21_16 dX21_unary_108 q2858 ?_
      rw [← hσ49]
      refine hr_iload_n hC dX21_unary_111 rfl ?_
      obtain rfl := Option.some.inj h
      exact hr_iret hC dX21_unary_112
    · rw [ht_1 z21] at h
      obtain rfl := Option.some.inj h
      exact hs_callVx (HX z21) hem 23 [] _ dX21_unary_25 q3255 q3257 qs201 q335 q3258 np_X21 rfl OB_23 pd_X21_postfix (Nat.le_of_ble_eq_true rfl) hd1 (hc_M1 (r := r17) (IH _ _ _ _ e18 am) z21) (hc_rb rfl) rfl
  · rw [hu_1 z15] at h
    obtain rfl := Option.some.inj h
    exact HX z15
/-- HomeCompilerModel.postfix()I -/
def bd_X21_postfix (n : Nat) (k0 : Nat) (rec : Nat → List Int32 → hc_St → Option (Nat × Int32 × hc_St))  (σ : hc_St) : Option (Nat × Int32 × hc_St) := Option.bind (rec 4 [] σ) fun r1 => ht r1 <| Option.bind (fm_X21_is 72 r1.2.2) fun r6 => Option.bind (α := Nat × hc_St × Int32) (if r6 = 0 then (Option.bind (fm_X21_is 73 r1.2.2) fun r34 => if r34 = 0 then (some (0, r1.2.2, r1.2.1)) else (Option.bind (fm_X21_stands_2 r1.2.1 r1.2.2) fun r40 => hv r40 (0) <| Option.bind (fm_X21_make 6 ((gI r40.2.2 23 15)) r40.2.2) fun r45 => hk (inb r1.2.1 (gL r45.2 23 20)) <| hk (inb r45.1 (gL r45.2 23 20)) <| hl (pC r45.2 23 20 r45.1 ((gC r45.2 23 20 r1.2.1))) fun σ51 => hk (inb r1.2.1 (gL σ51 23 27)) <| hk (inb r45.1 (gL σ51 23 27)) <| hl (pC σ51 23 27 r45.1 ((1 + ((gC σ51 23 27 r1.2.1))))) fun σ54 => hk (inb r45.1 (gL σ54 23 21)) <| hl (pC σ54 23 21 r45.1 r1.2.1) fun σ56 => hl (pI σ56 23 15 ((((gI σ56 23 15)) + 1))) fun σ57 => some (0, σ57, r45.1))) else (Option.bind (fm_X21_stands_2 r1.2.1 r1.2.2) fun r16 => hv r16 (0) <| Option.bind (fm_X21_make 6 ((gI r16.2.2 23 15)) r16.2.2) fun r21 => hk (inb r1.2.1 (gL r21.2 23 20)) <| hk (inb r21.1 (gL r21.2 23 20)) <| hl (pC r21.2 23 20 r21.1 ((gC r21.2 23 20 r1.2.1))) fun σ27 => hk (inb r1.2.1 (gL σ27 23 27)) <| hk (inb r21.1 (gL σ27 23 27)) <| hl (pC σ27 23 27 r21.1 ((1 + ((gC σ27 23 27 r1.2.1))))) fun σ30 => hk (inb r21.1 (gL σ30 23 21)) <| hl (pC σ30 23 21 r21.1 r1.2.1) fun σ32 => hl (pI σ32 23 15 ((((gI σ32 23 15)) + 1))) fun σ33 => some (0, σ33, r21.1))) fun r12 => hu r12 <| some (0, r12.2.2, r12.2.1)
set_option maxRecDepth 20000 in
set_option maxHeartbeats 4000000 in
theorem okbX21_postfix (l : Launch) (E : hc_E) (A : Nat → Prop) (d : Nat) {kk : Nat} (n : Nat) (k0 : Nat) (rec : Nat → List Int32 → hc_St → Option (Nat × Int32 × hc_St)) (hD : kk + 16 ≤ d) (IH : ∀ (w : Nat) (a : List Int32) (σ : hc_St) (r : (Nat × Int32 × hc_St)), rec w a σ = some r → ∀ am, okg_X21_conditional l E A (d - 1) am w a σ r)  {σ : hc_St} {r : (Nat × Int32 × hc_St)} (h : bd_X21_postfix n k0 rec  σ = some r) (am : Nat → Nat → Nat) : hc_M l hc_V0 yX21_postfix (ws_ yX21_postfix cX21_postfix 3 (some .int)) d E A [.ref (E.2.1 23)] am [] σ (hc_ot (fun v => some (.int v)) r) r.2.2 := by
  have hd1 : 1 ≤ d := by omega
  have hd8 : 9 ≤ d := by omega
  have hd12 : 12 ≤ d := by omega
  refine hc_enter2 (own := RX21) [(0, .ref (E.2.1 23))] pl_X21 rfl hc_V0_st hc_G0_nd rfl (Nat.le_of_ble_eq_true rfl) (fun X hC hem => ?_)
  have HX := fun z => hc_CX hC z
  unfold bd_X21_postfix at h
  refine hr_aload_n hC dX21_postfix_0 rfl ?_
  obtain ⟨r1, e2, h⟩ := hx_bind h
  by_cases z5 : r1.1 = 0
  · rw [ht_0 z5] at h
    refine hs_callV0 hC 23 [] _ dX21_postfix_1 q3259 q3261 qs202 q335 q3262 np_X21 rfl OB_23 pd_X21_primary (Nat.le_of_ble_eq_true rfl) hd1 (hc_M0 (r := r1) (IH _ _ _ _ e2 am) z5) rfl ?_
    refine hr_istore_n hC dX21_postfix_4 (by decide) ?_
    refine hr_aload_n hC dX21_postfix_5 rfl ?_
    refine hr_ldcs (v := 72) 72 hC dX21_postfix_6 (List.mem_of_getElem? (i := 72) rfl) (by decide) rfl ?_
    obtain ⟨r6, e7, h⟩ := hx_bind h
    refine hs_callV0 hC 23 [_] _ dX21_postfix_8 q3202 q3204 qs190 q335 q3205 np_X21 rfl OB_23 pd_X21_is (Nat.le_of_ble_eq_true rfl) hd1 (okX21_is l E A (d - 1)  (by omega)  e7 am) rfl ?_
    obtain ⟨r12, e13, h⟩ := hx_bind h
    have J14 : r12.1 = 0 → hc_At hc_V0 E 3 X 84 [(1, .int r12.2.2)] [] r12.2.1 am [] := by
      intro z15
      rw [hu_0 z15] at h
      refine hr_iload_n hC dX21_postfix_84 rfl ?_
      obtain rfl := Option.some.inj h
      exact hr_iret hC dX21_postfix_85
    have HX : r12.1 ≠ 0 → hc_C hc_V0 E cX21_postfix 3 RX21 (some .int) d (.inr r12.1) r12.2.1 (l, A, am, []) X := by
      intro z15
      rw [hu_1 z15] at h
      obtain rfl := Option.some.inj h
      exact HX z15
    clear h
    have h := e13
    refine hr_if_ne (x := _) hC 23 dX21_postfix_11 (by decide) (fun c11 => ?_) (fun c11 => ?_)
    · rw [if_neg c11] at h
      refine hr_aload_n hC dX21_postfix_23 rfl ?_
      refine hr_iload_n hC dX21_postfix_24 rfl ?_
      obtain ⟨r16, e17, h⟩ := hx_bind h
      by_cases z20 : r16.1 = 0
      · rw [hv_0 z20] at h
        refine hs_callV0 hC 23 [_] _ dX21_postfix_25 q3271 q3273 qs205 q335 q3274 np_X21 rfl OB_23 pd_X21_stands_2 (Nat.le_of_ble_eq_true rfl) hd1 (hc_M0 (r := r16) (okX21_stands_2 l E A (d - 1)  (by omega)  e17 am) z20) rfl ?_
        refine hr_aload_n hC dX21_postfix_28 rfl ?_
        refine hr_bipush (v := 6) hC dX21_postfix_29 rfl ?_
        refine hr_aload_n hC dX21_postfix_31 rfl ?_
        refine hr_gI hC F23_15 dX21_postfix_32 q2857 ?_
        obtain ⟨r21, e22, h⟩ := hx_bind h
        refine hs_callV0 hC 23 [_, _] _ dX21_postfix_35 q3194 q3196 qs188 q335 q3197 np_X21 rfl OB_23 pd_X21_make (Nat.le_of_ble_eq_true rfl) hd1 (okX21_make l E A (d - 1)  (by omega)  e22 am) rfl ?_
        refine hr_istore_n hC dX21_postfix_38 (by decide) ?_
        refine hr_aload_n hC dX21_postfix_39 rfl ?_
        refine hr_gA hC F23_20 rfl dX21_postfix_40 q2862 ?_
        refine hr_iload_n hC dX21_postfix_43 rfl ?_
        refine hr_aload_n hC dX21_postfix_44 rfl ?_
        refine hr_gA hC F23_20 rfl dX21_postfix_45 q2862 ?_
        refine hr_iload_n hC dX21_postfix_48 rfl ?_
        obtain ⟨c25, h⟩ := hk_ok h
        refine hs_iald hC A23_20 c25 dX21_postfix_49 ?_
        obtain ⟨c26, h⟩ := hk_ok h
        obtain ⟨σ27, hσ27, h⟩ := hl_ok h
        refine hs_iast hC A23_20 c26 dX21_postfix_50 ?_
        rw [← hσ27]
        refine hr_aload_n hC dX21_postfix_51 rfl ?_
        refine hr_gA hC F23_27 rfl dX21_postfix_52 q2869 ?_
        refine hr_iload_n hC dX21_postfix_55 rfl ?_
        refine hr_iconst (v := 1) hC dX21_postfix_56 rfl ?_
        refine hr_aload_n hC dX21_postfix_57 rfl ?_
        refine hr_gA hC F23_27 rfl dX21_postfix_58 q2869 ?_
        refine hr_iload_n hC dX21_postfix_61 rfl ?_
        obtain ⟨c28, h⟩ := hk_ok h
        refine hs_iald hC A23_27 c28 dX21_postfix_62 ?_
        refine hr_iadd hC dX21_postfix_63 ?_
        obtain ⟨c29, h⟩ := hk_ok h
        obtain ⟨σ30, hσ30, h⟩ := hl_ok h
        refine hs_iast hC A23_27 c29 dX21_postfix_64 ?_
        rw [← hσ30]
        refine hr_aload_n hC dX21_postfix_65 rfl ?_
        refine hr_gA hC F23_21 rfl dX21_postfix_66 q2863 ?_
        refine hr_iload_n hC dX21_postfix_69 rfl ?_
        refine hr_iload_n hC dX21_postfix_70 rfl ?_
        obtain ⟨c31, h⟩ := hk_ok h
        obtain ⟨σ32, hσ32, h⟩ := hl_ok h
        refine hs_iast hC A23_21 c31 dX21_postfix_71 ?_
        rw [← hσ32]
        refine hr_iload_n hC dX21_postfix_72 rfl ?_
        refine hr_istore_n hC dX21_postfix_73 (by decide) ?_
        refine hr_aload_n hC dX21_postfix_74 rfl ?_
        refine hr_dup hC dX21_postfix_75 rfl ?_
        refine hr_gI hC F23_15 dX21_postfix_76 q2857 ?_
        refine hr_iconst (v := 1) hC dX21_postfix_79 rfl ?_
        refine hr_iadd hC dX21_postfix_80 ?_
        obtain ⟨σ33, hσ33, h⟩ := hl_ok h
        refine hr_pI hC F23_15 PX21_15 dX21_postfix_81 q2857 ?_
        rw [← hσ33]
        obtain rfl := Option.some.inj h
        exact hr_sub _ rfl (J14 rfl)
      · rw [hv_1 z20] at h
        obtain rfl := Option.some.inj h
        exact hs_callVx (HX z20) hem 23 [_] _ dX21_postfix_25 q3271 q3273 qs205 q335 q3274 np_X21 rfl OB_23 pd_X21_stands_2 (Nat.le_of_ble_eq_true rfl) hd1 (hc_M1 (r := r16) (okX21_stands_2 l E A (d - 1)  (by omega)  e17 am) z20) (hc_rb rfl) rfl
    · rw [if_pos c11] at h
      refine hr_aload_n hC dX21_postfix_14 rfl ?_
      refine hr_ldcs (v := 73) 73 hC dX21_postfix_15 (List.mem_of_getElem? (i := 73) rfl) (by decide) rfl ?_
      obtain ⟨r34, e35, h⟩ := hx_bind h
      refine hs_callV0 hC 23 [_] _ dX21_postfix_17 q3202 q3204 qs190 q335 q3205 np_X21 rfl OB_23 pd_X21_is (Nat.le_of_ble_eq_true rfl) hd1 (okX21_is l E A (d - 1)  (by omega)  e35 am) rfl ?_
      refine hr_if_eq (x := _) hC 84 dX21_postfix_20 (by decide) (fun c39 => ?_) (fun c39 => ?_)
      · rw [if_pos c39] at h
        obtain rfl := Option.some.inj h
        exact hr_sub _ rfl (J14 rfl)
      · rw [if_neg c39] at h
        refine hr_aload_n hC dX21_postfix_23 rfl ?_
        refine hr_iload_n hC dX21_postfix_24 rfl ?_
        obtain ⟨r40, e41, h⟩ := hx_bind h
        by_cases z44 : r40.1 = 0
        · rw [hv_0 z44] at h
          refine hs_callV0 hC 23 [_] _ dX21_postfix_25 q3271 q3273 qs205 q335 q3274 np_X21 rfl OB_23 pd_X21_stands_2 (Nat.le_of_ble_eq_true rfl) hd1 (hc_M0 (r := r40) (okX21_stands_2 l E A (d - 1)  (by omega)  e41 am) z44) rfl ?_
          refine hr_aload_n hC dX21_postfix_28 rfl ?_
          refine hr_bipush (v := 6) hC dX21_postfix_29 rfl ?_
          refine hr_aload_n hC dX21_postfix_31 rfl ?_
          refine hr_gI hC F23_15 dX21_postfix_32 q2857 ?_
          obtain ⟨r45, e46, h⟩ := hx_bind h
          refine hs_callV0 hC 23 [_, _] _ dX21_postfix_35 q3194 q3196 qs188 q335 q3197 np_X21 rfl OB_23 pd_X21_make (Nat.le_of_ble_eq_true rfl) hd1 (okX21_make l E A (d - 1)  (by omega)  e46 am) rfl ?_
          refine hr_istore_n hC dX21_postfix_38 (by decide) ?_
          refine hr_aload_n hC dX21_postfix_39 rfl ?_
          refine hr_gA hC F23_20 rfl dX21_postfix_40 q2862 ?_
          refine hr_iload_n hC dX21_postfix_43 rfl ?_
          refine hr_aload_n hC dX21_postfix_44 rfl ?_
          refine hr_gA hC F23_20 rfl dX21_postfix_45 q2862 ?_
          refine hr_iload_n hC dX21_postfix_48 rfl ?_
          obtain ⟨c49, h⟩ := hk_ok h
          refine hs_iald hC A23_20 c49 dX21_postfix_49 ?_
          obtain ⟨c50, h⟩ := hk_ok h
          obtain ⟨σ51, hσ51, h⟩ := hl_ok h
          refine hs_iast hC A23_20 c50 dX21_postfix_50 ?_
          rw [← hσ51]
          refine hr_aload_n hC dX21_postfix_51 rfl ?_
          refine hr_gA hC F23_27 rfl dX21_postfix_52 q2869 ?_
          refine hr_iload_n hC dX21_postfix_55 rfl ?_
          refine hr_iconst (v := 1) hC dX21_postfix_56 rfl ?_
          refine hr_aload_n hC dX21_postfix_57 rfl ?_
          refine hr_gA hC F23_27 rfl dX21_postfix_58 q2869 ?_
          refine hr_iload_n hC dX21_postfix_61 rfl ?_
          obtain ⟨c52, h⟩ := hk_ok h
          refine hs_iald hC A23_27 c52 dX21_postfix_62 ?_
          refine hr_iadd hC dX21_postfix_63 ?_
          obtain ⟨c53, h⟩ := hk_ok h
          obtain ⟨σ54, hσ54, h⟩ := hl_ok h
          refine hs_iast hC A23_27 c53 dX21_postfix_64 ?_
          rw [← hσ54]
          refine hr_aload_n hC dX21_postfix_65 rfl ?_
          refine hr_gA hC F23_21 rfl dX21_postfix_66 q2863 ?_
          refine hr_iload_n hC dX21_postfix_69 rfl ?_
          refine hr_iload_n hC dX21_postfix_70 rfl ?_
          obtain ⟨c55, h⟩ := hk_ok h
          obtain ⟨σ56, hσ56, h⟩ := hl_ok h
          refine hs_iast hC A23_21 c55 dX21_postfix_71 ?_
          rw [← hσ56]
          refine hr_iload_n hC dX21_postfix_72 rfl ?_
          refine hr_istore_n hC dX21_postfix_73 (by decide) ?_
          refine hr_aload_n hC dX21_postfix_74 rfl ?_
          refine hr_dup hC dX21_postfix_75 rfl ?_
          refine hr_gI hC F23_15 dX21_postfix_76 q2857 ?_
          refine hr_iconst (v := 1) hC dX21_postfix_79 rfl ?_
          refine hr_iadd hC dX21_postfix_80 ?_
          obtain ⟨σ57, hσ57, h⟩ := hl_ok h
          refine hr_pI hC F23_15 PX21_15 dX21_postfix_81 q2857 ?_
          rw [← hσ57]
          obtain rfl := Option.some.inj h
          exact hr_sub _ rfl (J14 rfl)
        · rw [hv_1 z44] at h
          obtain rfl := Option.some.inj h
          exact hs_callVx (HX z44) hem 23 [_] _ dX21_postfix_25 q3271 q3273 qs205 q335 q3274 np_X21 rfl OB_23 pd_X21_stands_2 (Nat.le_of_ble_eq_true rfl) hd1 (hc_M1 (r := r40) (okX21_stands_2 l E A (d - 1)  (by omega)  e41 am) z44) (hc_rb rfl) rfl
  · rw [ht_1 z5] at h
    obtain rfl := Option.some.inj h
    exact hs_callVx (HX z5) hem 23 [] _ dX21_postfix_1 q3259 q3261 qs202 q335 q3262 np_X21 rfl OB_23 pd_X21_primary (Nat.le_of_ble_eq_true rfl) hd1 (hc_M1 (r := r1) (IH _ _ _ _ e2 am) z5) (hc_rb rfl) rfl
/-- HomeCompilerModel.primary()I -/
def bd_X21_primary (n : Nat) (k0 : Nat) (rec : Nat → List Int32 → hc_St → Option (Nat × Int32 × hc_St))  (σ : hc_St) : Option (Nat × Int32 × hc_St) := hk (inb ((gI σ 23 15)) (gL σ 23 13)) <| if (gC σ 23 13 ((gI σ 23 15))).toInt8.toInt32 = 3 then (Option.bind (fm_X21_make 1 ((gI σ 23 15)) σ) fun r78 => hl (pI r78.2 23 15 ((((gI r78.2 23 15)) + 1))) fun σ82 => some (0, r78.1, σ82)) else (Option.bind (fm_X21_is 74 σ) fun r4 => if r4 = 0 then (Option.bind (fm_X21_name  σ) fun r10 => ht r10 <| Option.bind (fm_X21_is 74 r10.2.2) fun r15 => if r15 = 0 then (Option.bind (fm_X21_is 78 r10.2.2) fun r21 => if r21 = 0 then (Option.bind (fm_X21_make 2 r10.2.1 r10.2.2) fun r27 => some (0, r27.1, r27.2)) else (Option.bind (fm_X21_make 4 r10.2.1 r10.2.2) fun r31 => Option.bind (fm_X21_opens  r31.2) fun r35 => ht r35 <| Option.bind (rec 5 [] r35.2.2) fun r40 => ht r40 <| hk (inb r31.1 (gL r40.2.2 23 21)) <| hl (pC r40.2.2 23 21 r31.1 r40.2.1) fun σ46 => hk (inb r31.1 (gL σ46 23 21)) <| hk (inb ((gC σ46 23 21 r31.1)) (gL σ46 23 27)) <| hk (inb r31.1 (gL σ46 23 27)) <| hl (pC σ46 23 27 r31.1 ((1 + ((gC σ46 23 27 ((gC σ46 23 21 r31.1))))))) fun σ50 => Option.bind (fm_X21_closes 79 σ50) fun r51 => ht r51 <| some (0, r31.1, r51.2.2))) else (Option.bind (rec 6 [r10.2.1] r10.2.2) fun r56 => ht r56 <| some (0, r56.2.1, r56.2.2))) else (Option.bind (fm_X21_opens  σ) fun r61 => ht r61 <| Option.bind (rec 5 [] r61.2.2) fun r66 => ht r66 <| Option.bind (fm_X21_closes 75 r66.2.2) fun r71 => ht r71 <| hk (inb r66.2.1 (gL r71.2.2 23 20)) <| hl (pC r71.2.2 23 20 r66.2.1 ((gI σ 23 15))) fun σ77 => some (0, r66.2.1, σ77)))
set_option maxRecDepth 20000 in
set_option maxHeartbeats 4000000 in
theorem okbX21_primary (l : Launch) (E : hc_E) (A : Nat → Prop) (d : Nat) {kk : Nat} (n : Nat) (k0 : Nat) (rec : Nat → List Int32 → hc_St → Option (Nat × Int32 × hc_St)) (hD : kk + 16 ≤ d) (IH : ∀ (w : Nat) (a : List Int32) (σ : hc_St) (r : (Nat × Int32 × hc_St)), rec w a σ = some r → ∀ am, okg_X21_conditional l E A (d - 1) am w a σ r)  {σ : hc_St} {r : (Nat × Int32 × hc_St)} (h : bd_X21_primary n k0 rec  σ = some r) (am : Nat → Nat → Nat) : hc_M l hc_V0 yX21_primary (ws_ yX21_primary cX21_primary 3 (some .int)) d E A [.ref (E.2.1 23)] am [] σ (hc_ot (fun v => some (.int v)) r) r.2.2 := by
  have hd1 : 1 ≤ d := by omega
  have hd8 : 9 ≤ d := by omega
  have hd12 : 12 ≤ d := by omega
  refine hc_enter2 (own := RX21) [(0, .ref (E.2.1 23))] pl_X21 rfl hc_V0_st hc_G0_nd rfl (Nat.le_of_ble_eq_true rfl) (fun X hC hem => ?_)
  have HX := fun z => hc_CX hC z
  unfold bd_X21_primary at h
  refine hr_aload_n hC dX21_primary_0 rfl ?_
  refine hr_gA hC F23_13 rfl dX21_primary_1 q2855 ?_
  refine hr_aload_n hC dX21_primary_4 rfl ?_
  refine hr_gI hC F23_15 dX21_primary_5 q2857 ?_
  obtain ⟨c1, h⟩ := hk_ok h
  refine hs_bald hC A23_13 c1 dX21_primary_8 ?_
  refine hr_iconst (v := 3) hC dX21_primary_9 rfl ?_
  refine hr_icmp_ne (x := _) hC 35 dX21_primary_10 (by decide) (fun c3 => ?_) (fun c3 => ?_)
  · rw [if_neg c3] at h
    refine hr_aload_n hC dX21_primary_35 rfl ?_
    refine hr_ldcs (v := 74) 74 hC dX21_primary_36 (List.mem_of_getElem? (i := 74) rfl) (by decide) rfl ?_
    obtain ⟨r4, e5, h⟩ := hx_bind h
    refine hs_callV0 hC 23 [_] _ dX21_primary_38 q3202 q3204 qs190 q335 q3205 np_X21 rfl OB_23 pd_X21_is (Nat.le_of_ble_eq_true rfl) hd1 (okX21_is l E A (d - 1)  (by omega)  e5 am) rfl ?_
    refine hr_if_eq (x := _) hC 73 dX21_primary_41 (by decide) (fun c9 => ?_) (fun c9 => ?_)
    · rw [if_pos c9] at h
      refine hr_aload_n hC dX21_primary_73 rfl ?_
      obtain ⟨r10, e11, h⟩ := hx_bind h
      by_cases z14 : r10.1 = 0
      · rw [ht_0 z14] at h
        refine hs_callV0 hC 23 [] _ dX21_primary_74 q3227 q3229 qs194 q335 q3230 np_X21 rfl OB_23 pd_X21_name (Nat.le_of_ble_eq_true rfl) hd1 (hc_M0 (r := r10) (okX21_name l E A (d - 1)  (by omega)  e11 am) z14) rfl ?_
        refine hr_istore_n hC dX21_primary_77 (by decide) ?_
        refine hr_aload_n hC dX21_primary_78 rfl ?_
        refine hr_ldcs (v := 74) 74 hC dX21_primary_79 (List.mem_of_getElem? (i := 74) rfl) (by decide) rfl ?_
        obtain ⟨r15, e16, h⟩ := hx_bind h
        refine hs_callV0 hC 23 [_] _ dX21_primary_81 q3202 q3204 qs190 q335 q3205 np_X21 rfl OB_23 pd_X21_is (Nat.le_of_ble_eq_true rfl) hd1 (okX21_is l E A (d - 1)  (by omega)  e16 am) rfl ?_
        refine hr_if_eq (x := _) hC 93 dX21_primary_84 (by decide) (fun c20 => ?_) (fun c20 => ?_)
        · rw [if_pos c20] at h
          refine hr_aload_n hC dX21_primary_93 rfl ?_
          refine hr_ldcs (v := 78) 78 hC dX21_primary_94 (List.mem_of_getElem? (i := 78) rfl) (by decide) rfl ?_
          obtain ⟨r21, e22, h⟩ := hx_bind h
          refine hs_callV0 hC 23 [_] _ dX21_primary_96 q3202 q3204 qs190 q335 q3205 np_X21 rfl OB_23 pd_X21_is (Nat.le_of_ble_eq_true rfl) hd1 (okX21_is l E A (d - 1)  (by omega)  e22 am) rfl ?_
          refine hr_if_eq (x := _) hC 150 dX21_primary_99 (by decide) (fun c26 => ?_) (fun c26 => ?_)
          · rw [if_pos c26] at h
            refine hr_aload_n hC dX21_primary_150 rfl ?_
            refine hr_iconst (v := 2) hC dX21_primary_151 rfl ?_
            refine hr_iload_n hC dX21_primary_152 rfl ?_
            obtain ⟨r27, e28, h⟩ := hx_bind h
            refine hs_callV0 hC 23 [_, _] _ dX21_primary_153 q3194 q3196 qs188 q335 q3197 np_X21 rfl OB_23 pd_X21_make (Nat.le_of_ble_eq_true rfl) hd1 (okX21_make l E A (d - 1)  (by omega)  e28 am) rfl ?_
            obtain rfl := Option.some.inj h
            exact hr_iret hC dX21_primary_156
          · rw [if_neg c26] at h
            refine hr_aload_n hC dX21_primary_102 rfl ?_
            refine hr_iconst (v := 4) hC dX21_primary_103 rfl ?_
            refine hr_iload_n hC dX21_primary_104 rfl ?_
            obtain ⟨r31, e32, h⟩ := hx_bind h
            refine hs_callV0 hC 23 [_, _] _ dX21_primary_105 q3194 q3196 qs188 q335 q3197 np_X21 rfl OB_23 pd_X21_make (Nat.le_of_ble_eq_true rfl) hd1 (okX21_make l E A (d - 1)  (by omega)  e32 am) rfl ?_
            refine hr_istore_n hC dX21_primary_108 (by decide) ?_
            refine hr_aload_n hC dX21_primary_109 rfl ?_
            obtain ⟨r35, e36, h⟩ := hx_bind h
            by_cases z39 : r35.1 = 0
            · rw [ht_0 z39] at h
              refine hs_callV0 hC 23 [] _ dX21_primary_110 q3223 q3225 qs193 q335 q3226 np_X21 rfl OB_23 pd_X21_opens (Nat.le_of_ble_eq_true rfl) hd1 (hc_M0 (r := r35) (okX21_opens l E A (d - 1)  (by omega)  e36 am) z39) rfl ?_
              refine hr_aload_n hC dX21_primary_113 rfl ?_
              refine hr_gA hC F23_21 rfl dX21_primary_114 q2863 ?_
              refine hr_iload_n hC dX21_primary_117 rfl ?_
              refine hr_aload_n hC dX21_primary_118 rfl ?_
              obtain ⟨r40, e41, h⟩ := hx_bind h
              by_cases z44 : r40.1 = 0
              · rw [ht_0 z44] at h
                refine hs_callV0 hC 23 [] _ dX21_primary_119 q3263 q3265 qs203 q335 q3266 np_X21 rfl OB_23 pd_X21_expression (Nat.le_of_ble_eq_true rfl) hd1 (hc_M0 (r := r40) (IH _ _ _ _ e41 am) z44) rfl ?_
                obtain ⟨c45, h⟩ := hk_ok h
                obtain ⟨σ46, hσ46, h⟩ := hl_ok h
                refine hs_iast hC A23_21 c45 dX21_primary_122 ?_
                rw [← hσ46]
                refine hr_aload_n hC dX21_primary_123 rfl ?_
                refine hr_gA hC F23_27 rfl dX21_primary_124 q2869 ?_
                refine hr_iload_n hC dX21_primary_127 rfl ?_
                refine hr_iconst (v := 1) hC dX21_primary_128 rfl ?_
                refine hr_aload_n hC dX21_primary_129 rfl ?_
                refine hr_gA hC F23_27 rfl dX21_primary_130 q2869 ?_
                refine hr_aload_n hC dX21_primary_133 rfl ?_
                refine hr_gA hC F23_21 rfl dX21_primary_134 q2863 ?_
                refine hr_iload_n hC dX21_primary_137 rfl ?_
                obtain ⟨c47, h⟩ := hk_ok h
                refine hs_iald hC A23_21 c47 dX21_primary_138 ?_
                obtain ⟨c48, h⟩ := hk_ok h
                refine hs_iald hC A23_27 c48 dX21_primary_139 ?_
                refine hr_iadd hC dX21_primary_140 ?_
                obtain ⟨c49, h⟩ := hk_ok h
                obtain ⟨σ50, hσ50, h⟩ := hl_ok h
                refine hs_iast hC A23_27 c49 dX21_primary_141 ?_
                rw [← hσ50]
                refine hr_aload_n hC dX21_primary_142 rfl ?_
                refine hr_ldcs (v := 79) 79 hC dX21_primary_143 (List.mem_of_getElem? (i := 79) rfl) (by decide) rfl ?_
                obtain ⟨r51, e52, h⟩ := hx_bind h
                by_cases z55 : r51.1 = 0
                · rw [ht_0 z55] at h
                  refine hs_callV0 hC 23 [_] _ dX21_primary_145 q3278 q3280 qs206 q335 q3281 np_X21 rfl OB_23 pd_X21_closes (Nat.le_of_ble_eq_true rfl) hd1 (hc_M0 (r := r51) (okX21_closes l E A (d - 1)  (by omega)  e52 am) z55) rfl ?_
                  refine hr_iload_n hC dX21_primary_148 rfl ?_
                  obtain rfl := Option.some.inj h
                  exact hr_iret hC dX21_primary_149
                · rw [ht_1 z55] at h
                  obtain rfl := Option.some.inj h
                  exact hs_callVx (HX z55) hem 23 [_] _ dX21_primary_145 q3278 q3280 qs206 q335 q3281 np_X21 rfl OB_23 pd_X21_closes (Nat.le_of_ble_eq_true rfl) hd1 (hc_M1 (r := r51) (okX21_closes l E A (d - 1)  (by omega)  e52 am) z55) (hc_rb rfl) rfl
              · rw [ht_1 z44] at h
                obtain rfl := Option.some.inj h
                exact hs_callVx (HX z44) hem 23 [] _ dX21_primary_119 q3263 q3265 qs203 q335 q3266 np_X21 rfl OB_23 pd_X21_expression (Nat.le_of_ble_eq_true rfl) hd1 (hc_M1 (r := r40) (IH _ _ _ _ e41 am) z44) (hc_rb rfl) rfl
            · rw [ht_1 z39] at h
              obtain rfl := Option.some.inj h
              exact hs_callVx (HX z39) hem 23 [] _ dX21_primary_110 q3223 q3225 qs193 q335 q3226 np_X21 rfl OB_23 pd_X21_opens (Nat.le_of_ble_eq_true rfl) hd1 (hc_M1 (r := r35) (okX21_opens l E A (d - 1)  (by omega)  e36 am) z39) (hc_rb rfl) rfl
        · rw [if_neg c20] at h
          refine hr_aload_n hC dX21_primary_87 rfl ?_
          refine hr_iload_n hC dX21_primary_88 rfl ?_
          obtain ⟨r56, e57, h⟩ := hx_bind h
          by_cases z60 : r56.1 = 0
          · rw [ht_0 z60] at h
            refine hs_callV0 hC 23 [_] _ dX21_primary_89 q3286 q3288 qs208 q335 q3289 np_X21 rfl OB_23 pd_X21_call (Nat.le_of_ble_eq_true rfl) hd1 (hc_M0 (r := r56) (IH _ _ _ _ e57 am) z60) rfl ?_
            obtain rfl := Option.some.inj h
            exact hr_iret hC dX21_primary_92
          · rw [ht_1 z60] at h
            obtain rfl := Option.some.inj h
            exact hs_callVx (HX z60) hem 23 [_] _ dX21_primary_89 q3286 q3288 qs208 q335 q3289 np_X21 rfl OB_23 pd_X21_call (Nat.le_of_ble_eq_true rfl) hd1 (hc_M1 (r := r56) (IH _ _ _ _ e57 am) z60) (hc_rb rfl) rfl
      · rw [ht_1 z14] at h
        obtain rfl := Option.some.inj h
        exact hs_callVx (HX z14) hem 23 [] _ dX21_primary_74 q3227 q3229 qs194 q335 q3230 np_X21 rfl OB_23 pd_X21_name (Nat.le_of_ble_eq_true rfl) hd1 (hc_M1 (r := r10) (okX21_name l E A (d - 1)  (by omega)  e11 am) z14) (hc_rb rfl) rfl
    · rw [if_neg c9] at h
      refine hr_aload_n hC dX21_primary_44 rfl ?_
      refine hr_gI hC F23_15 dX21_primary_45 q2857 ?_
      refine hr_istore_n hC dX21_primary_48 (by decide) ?_
      refine hr_aload_n hC dX21_primary_49 rfl ?_
      obtain ⟨r61, e62, h⟩ := hx_bind h
      by_cases z65 : r61.1 = 0
      · rw [ht_0 z65] at h
        refine hs_callV0 hC 23 [] _ dX21_primary_50 q3223 q3225 qs193 q335 q3226 np_X21 rfl OB_23 pd_X21_opens (Nat.le_of_ble_eq_true rfl) hd1 (hc_M0 (r := r61) (okX21_opens l E A (d - 1)  (by omega)  e62 am) z65) rfl ?_
        refine hr_aload_n hC dX21_primary_53 rfl ?_
        obtain ⟨r66, e67, h⟩ := hx_bind h
        by_cases z70 : r66.1 = 0
        · rw [ht_0 z70] at h
          refine hs_callV0 hC 23 [] _ dX21_primary_54 q3263 q3265 qs203 q335 q3266 np_X21 rfl OB_23 pd_X21_expression (Nat.le_of_ble_eq_true rfl) hd1 (hc_M0 (r := r66) (IH _ _ _ _ e67 am) z70) rfl ?_
          refine hr_istore_n hC dX21_primary_57 (by decide) ?_
          refine hr_aload_n hC dX21_primary_58 rfl ?_
          refine hr_ldcs (v := 75) 75 hC dX21_primary_59 (List.mem_of_getElem? (i := 75) rfl) (by decide) rfl ?_
          obtain ⟨r71, e72, h⟩ := hx_bind h
          by_cases z75 : r71.1 = 0
          · rw [ht_0 z75] at h
            refine hs_callV0 hC 23 [_] _ dX21_primary_61 q3278 q3280 qs206 q335 q3281 np_X21 rfl OB_23 pd_X21_closes (Nat.le_of_ble_eq_true rfl) hd1 (hc_M0 (r := r71) (okX21_closes l E A (d - 1)  (by omega)  e72 am) z75) rfl ?_
            refine hr_aload_n hC dX21_primary_64 rfl ?_
            refine hr_gA hC F23_20 rfl dX21_primary_65 q2862 ?_
            refine hr_iload_n hC dX21_primary_68 rfl ?_
            refine hr_iload_n hC dX21_primary_69 rfl ?_
            obtain ⟨c76, h⟩ := hk_ok h
            obtain ⟨σ77, hσ77, h⟩ := hl_ok h
            refine hs_iast hC A23_20 c76 dX21_primary_70 ?_
            rw [← hσ77]
            refine hr_iload_n hC dX21_primary_71 rfl ?_
            obtain rfl := Option.some.inj h
            exact hr_iret hC dX21_primary_72
          · rw [ht_1 z75] at h
            obtain rfl := Option.some.inj h
            exact hs_callVx (HX z75) hem 23 [_] _ dX21_primary_61 q3278 q3280 qs206 q335 q3281 np_X21 rfl OB_23 pd_X21_closes (Nat.le_of_ble_eq_true rfl) hd1 (hc_M1 (r := r71) (okX21_closes l E A (d - 1)  (by omega)  e72 am) z75) (hc_rb rfl) rfl
        · rw [ht_1 z70] at h
          obtain rfl := Option.some.inj h
          exact hs_callVx (HX z70) hem 23 [] _ dX21_primary_54 q3263 q3265 qs203 q335 q3266 np_X21 rfl OB_23 pd_X21_expression (Nat.le_of_ble_eq_true rfl) hd1 (hc_M1 (r := r66) (IH _ _ _ _ e67 am) z70) (hc_rb rfl) rfl
      · rw [ht_1 z65] at h
        obtain rfl := Option.some.inj h
        exact hs_callVx (HX z65) hem 23 [] _ dX21_primary_50 q3223 q3225 qs193 q335 q3226 np_X21 rfl OB_23 pd_X21_opens (Nat.le_of_ble_eq_true rfl) hd1 (hc_M1 (r := r61) (okX21_opens l E A (d - 1)  (by omega)  e62 am) z65) (hc_rb rfl) rfl
  · rw [if_pos c3] at h
    refine hr_aload_n hC dX21_primary_13 rfl ?_
    refine hr_iconst (v := 1) hC dX21_primary_14 rfl ?_
    refine hr_aload_n hC dX21_primary_15 rfl ?_
    refine hr_gI hC F23_15 dX21_primary_16 q2857 ?_
    obtain ⟨r78, e79, h⟩ := hx_bind h
    refine hs_callV0 hC 23 [_, _] _ dX21_primary_19 q3194 q3196 qs188 q335 q3197 np_X21 rfl OB_23 pd_X21_make (Nat.le_of_ble_eq_true rfl) hd1 (okX21_make l E A (d - 1)  (by omega)  e79 am) rfl ?_
    refine hr_istore_n hC dX21_primary_22 (by decide) ?_
    refine hr_aload_n hC dX21_primary_23 rfl ?_
    refine hr_dup hC dX21_primary_24 rfl ?_
    refine hr_gI hC F23_15 dX21_primary_25 q2857 ?_
    refine hr_iconst (v := 1) hC dX21_primary_28 rfl ?_
    refine hr_iadd hC dX21_primary_29 ?_
    obtain ⟨σ82, hσ82, h⟩ := hl_ok h
    refine hr_pI hC F23_15 PX21_15 dX21_primary_30 q2857 ?_
    rw [← hσ82]
    refine hr_iload_n hC dX21_primary_33 rfl ?_
    obtain rfl := Option.some.inj h
    exact hr_iret hC dX21_primary_34
/-- HomeCompilerModel.expression()I -/
def bd_X21_expression (n : Nat) (k0 : Nat) (rec : Nat → List Int32 → hc_St → Option (Nat × Int32 × hc_St))  (σ : hc_St) : Option (Nat × Int32 × hc_St) := Option.bind (rec 0 [] σ) fun r1 => ht r1 <| hl (α := Int32) ((if 0 ≤ r1.2.1 then 0 else 1)) fun v8 => hl (α := Int32) ((if v8 = 0 then r1.2.1 else (((-1)) - r1.2.1))) fun v11 => Option.bind (fm_X21_isAssigning  r1.2.2) fun r12 => Option.bind (α := Nat × hc_St × Int32) (if r12 = 0 then (some (0, r1.2.2, v11)) else (if v8 = 0 then (some (0, r1.2.2, v11)) else (Option.bind (fm_X21_stands_2 v11 r1.2.2) fun r24 => hv r24 (0) <| Option.bind (fm_X21_opens  r24.2.2) fun r29 => hv r29 (0) <| Option.bind (rec 5 [] r29.2.2) fun r34 => hv r34 (0) <| hl (pI r34.2.2 23 16 ((((gI r34.2.2 23 16)) - 1))) fun σ39 => Option.bind (fm_X21_make 9 ((gI r1.2.2 23 15)) σ39) fun r40 => hk (inb v11 (gL r40.2 23 27)) <| hk (inb r34.2.1 (gL r40.2 23 27)) <| Option.bind (fm_X21_deeper ((gC r40.2 23 27 v11)) ((gC r40.2 23 27 r34.2.1)) r40.2) fun r46 => hk (inb r40.1 (gL r40.2 23 27)) <| hl (pC r40.2 23 27 r40.1 ((1 + r46))) fun σ51 => hk (inb r40.1 (gL σ51 23 20)) <| hl (pC σ51 23 20 r40.1 ((gI σ 23 15))) fun σ53 => hk (inb r40.1 (gL σ53 23 21)) <| hl (pC σ53 23 21 r40.1 v11) fun σ55 => hk (inb r40.1 (gL σ55 23 22)) <| hl (pC σ55 23 22 r40.1 r34.2.1) fun σ57 => some (0, σ57, r40.1)))) fun r18 => hu r18 <| some (0, r18.2.2, r18.2.1)
set_option maxRecDepth 20000 in
set_option maxHeartbeats 4000000 in
theorem okbX21_expression (l : Launch) (E : hc_E) (A : Nat → Prop) (d : Nat) {kk : Nat} (n : Nat) (k0 : Nat) (rec : Nat → List Int32 → hc_St → Option (Nat × Int32 × hc_St)) (hD : kk + 16 ≤ d) (IH : ∀ (w : Nat) (a : List Int32) (σ : hc_St) (r : (Nat × Int32 × hc_St)), rec w a σ = some r → ∀ am, okg_X21_conditional l E A (d - 1) am w a σ r)  {σ : hc_St} {r : (Nat × Int32 × hc_St)} (h : bd_X21_expression n k0 rec  σ = some r) (am : Nat → Nat → Nat) : hc_M l hc_V0 yX21_expression (ws_ yX21_expression cX21_expression 7 (some .int)) d E A [.ref (E.2.1 23)] am [] σ (hc_ot (fun v => some (.int v)) r) r.2.2 := by
  have hd1 : 1 ≤ d := by omega
  have hd8 : 9 ≤ d := by omega
  have hd12 : 12 ≤ d := by omega
  refine hc_enter2 (own := RX21) [(0, .ref (E.2.1 23))] pl_X21 rfl hc_V0_st hc_G0_nd rfl (Nat.le_of_ble_eq_true rfl) (fun X hC hem => ?_)
  have HX := fun z => hc_CX hC z
  unfold bd_X21_expression at h
  refine hr_aload_n hC dX21_expression_0 rfl ?_
  refine hr_gI hC F23_15 dX21_expression_1 q2857 ?_
  refine hr_istore_n hC dX21_expression_4 (by decide) ?_
  refine hr_aload_n hC dX21_expression_5 rfl ?_
  obtain ⟨r1, e2, h⟩ := hx_bind h
  by_cases z5 : r1.1 = 0
  · rw [ht_0 z5] at h
    refine hs_callV0 hC 23 [] _ dX21_expression_6 q3239 q3241 qs197 q335 q3242 np_X21 rfl OB_23 pd_X21_conditional (Nat.le_of_ble_eq_true rfl) hd1 (hc_M0 (r := r1) (IH _ _ _ _ e2 am) z5) rfl ?_
    refine hr_istore_n hC dX21_expression_9 (by decide) ?_
    refine hr_iload_n hC dX21_expression_10 rfl ?_
    obtain ⟨v8, hv8, h⟩ := hl_ok h
    have J61 : ∀ w62 : Int32, (if 0 ≤ r1.2.1 then 0 else 1) = w62 → hc_At hc_V0 E 7 X 19 [(0, .ref (E.2.1 23)), (1, .int (gI σ 23 15)), (2, .int r1.2.1)] [.int w62] r1.2.2 am [] := by
      intro w62 hw62
      obtain rfl := hv8.trans hw62
      refine hr_istore_n hC dX21_expression_19 (by decide) ?_
      refine hr_iload_n hC dX21_expression_20 rfl ?_
      obtain ⟨v11, hv11, h⟩ := hl_ok h
      have J58 : ∀ w59 : Int32, (if v8 = 0 then r1.2.1 else (((-1)) - r1.2.1)) = w59 → hc_At hc_V0 E 7 X 31 [(0, .ref (E.2.1 23)), (1, .int (gI σ 23 15)), (3, .int v8)] [.int w59] r1.2.2 am [] := by
        intro w59 hw59
        obtain rfl := hv11.trans hw59
        refine hr_istore_n hC dX21_expression_31 (by decide) ?_
        refine hr_aload_n hC dX21_expression_32 rfl ?_
        obtain ⟨r12, e13, h⟩ := hx_bind h
        refine hs_callV0 hC 23 [] _ dX21_expression_33 q3267 q3269 qs204 q335 q3270 np_X21 rfl OB_23 pd_X21_isAssigning (Nat.le_of_ble_eq_true rfl) hd1 (okX21_isAssigning l E A (d - 1)  (by omega)  e13 am) rfl ?_
        obtain ⟨r18, e19, h⟩ := hx_bind h
        have J20 : r18.1 = 0 → hc_At hc_V0 E 7 X 137 [(2, .int r18.2.2)] [] r18.2.1 am [] := by
          intro z21
          rw [hu_0 z21] at h
          refine hr_iload_n hC dX21_expression_137 rfl ?_
          obtain rfl := Option.some.inj h
          exact hr_iret hC dX21_expression_138
        have HX : r18.1 ≠ 0 → hc_C hc_V0 E cX21_expression 7 RX21 (some .int) d (.inr r18.1) r18.2.1 (l, A, am, []) X := by
          intro z21
          rw [hu_1 z21] at h
          obtain rfl := Option.some.inj h
          exact HX z21
        clear h
        have h := e19
        refine hr_if_eq (x := _) hC 137 dX21_expression_36 (by decide) (fun c17 => ?_) (fun c17 => ?_)
        · rw [if_pos c17] at h
          obtain rfl := Option.some.inj h
          exact hr_sub _ rfl (J20 rfl)
        · rw [if_neg c17] at h
          refine hr_iload_n hC dX21_expression_39 rfl ?_
          refine hr_if_eq (x := _) hC 137 dX21_expression_40 (by decide) (fun c23 => ?_) (fun c23 => ?_)
          · rw [if_pos c23] at h
            obtain rfl := Option.some.inj h
            exact hr_sub _ rfl (J20 rfl)
          · rw [if_neg c23] at h
            refine hr_aload_n hC dX21_expression_43 rfl ?_
            refine hr_gI hC F23_15 dX21_expression_44 q2857 ?_
            refine hr_istore hC dX21_expression_47 (by decide) ?_
            refine hr_aload_n hC dX21_expression_49 rfl ?_
            refine hr_iload_n hC dX21_expression_50 rfl ?_
            obtain ⟨r24, e25, h⟩ := hx_bind h
            by_cases z28 : r24.1 = 0
            · rw [hv_0 z28] at h
              refine hs_callV0 hC 23 [_] _ dX21_expression_51 q3271 q3273 qs205 q335 q3274 np_X21 rfl OB_23 pd_X21_stands_2 (Nat.le_of_ble_eq_true rfl) hd1 (hc_M0 (r := r24) (okX21_stands_2 l E A (d - 1)  (by omega)  e25 am) z28) rfl ?_
              refine hr_aload_n hC dX21_expression_54 rfl ?_
              obtain ⟨r29, e30, h⟩ := hx_bind h
              by_cases z33 : r29.1 = 0
              · rw [hv_0 z33] at h
                refine hs_callV0 hC 23 [] _ dX21_expression_55 q3223 q3225 qs193 q335 q3226 np_X21 rfl OB_23 pd_X21_opens (Nat.le_of_ble_eq_true rfl) hd1 (hc_M0 (r := r29) (okX21_opens l E A (d - 1)  (by omega)  e30 am) z33) rfl ?_
                refine hr_aload_n hC dX21_expression_58 rfl ?_
                obtain ⟨r34, e35, h⟩ := hx_bind h
                by_cases z38 : r34.1 = 0
                · rw [hv_0 z38] at h
                  refine hs_callV0 hC 23 [] _ dX21_expression_59 q3263 q3265 qs203 q335 q3266 np_X21 rfl OB_23 pd_X21_expression (Nat.le_of_ble_eq_true rfl) hd1 (hc_M0 (r := r34) (IH _ _ _ _ e35 am) z38) rfl ?_
                  refine hr_istore hC dX21_expression_62 (by decide) ?_
                  refine hr_aload_n hC dX21_expression_64 rfl ?_
                  refine hr_dup hC dX21_expression_65 rfl ?_
                  refine hr_gI hC F23_16 dX21_expression_66 q2858 ?_
                  refine hr_iconst (v := 1) hC dX21_expression_69 rfl ?_
                  refine hr_isub hC dX21_expression_70 ?_
                  obtain ⟨σ39, hσ39, h⟩ := hl_ok h
                  refine hr_pI hC F23_16 PX21_16 dX21_expression_71 q2858 ?_
                  rw [← hσ39]
                  refine hr_aload_n hC dX21_expression_74 rfl ?_
                  refine hr_bipush (v := 9) hC dX21_expression_75 rfl ?_
                  refine hr_iload hC dX21_expression_77 rfl ?_
                  obtain ⟨r40, e41, h⟩ := hx_bind h
                  refine hs_callV0 hC 23 [_, _] _ dX21_expression_79 q3194 q3196 qs188 q335 q3197 np_X21 rfl OB_23 pd_X21_make (Nat.le_of_ble_eq_true rfl) hd1 (okX21_make l E A (d - 1)  (by omega)  e41 am) rfl ?_
                  refine hr_istore hC dX21_expression_82 (by decide) ?_
                  refine hr_aload_n hC dX21_expression_84 rfl ?_
                  refine hr_gA hC F23_27 rfl dX21_expression_85 q2869 ?_
                  refine hr_iload hC dX21_expression_88 rfl ?_
                  refine hr_iconst (v := 1) hC dX21_expression_90 rfl ?_
                  refine hr_aload_n hC dX21_expression_91 rfl ?_
                  refine hr_gA hC F23_27 rfl dX21_expression_92 q2869 ?_
                  refine hr_iload_n hC dX21_expression_95 rfl ?_
                  obtain ⟨c44, h⟩ := hk_ok h
                  refine hs_iald hC A23_27 c44 dX21_expression_96 ?_
                  refine hr_aload_n hC dX21_expression_97 rfl ?_
                  refine hr_gA hC F23_27 rfl dX21_expression_98 q2869 ?_
                  refine hr_iload hC dX21_expression_101 rfl ?_
                  obtain ⟨c45, h⟩ := hk_ok h
                  refine hs_iald hC A23_27 c45 dX21_expression_103 ?_
                  obtain ⟨r46, e47, h⟩ := hx_bind h
                  refine hs_callS0 hC [_, _] _ dX21_expression_104 q3275 q3276 q335 q3277 np_X21 rfl pd_X21_deeper (Nat.le_of_ble_eq_true rfl) hd1 (okX21_deeper l E A (d - 1)  (by omega)  e47 am) rfl ?_
                  refine hr_iadd hC dX21_expression_107 ?_
                  obtain ⟨c50, h⟩ := hk_ok h
                  obtain ⟨σ51, hσ51, h⟩ := hl_ok h
                  refine hs_iast hC A23_27 c50 dX21_expression_108 ?_
                  rw [← hσ51]
                  refine hr_aload_n hC dX21_expression_109 rfl ?_
                  refine hr_gA hC F23_20 rfl dX21_expression_110 q2862 ?_
                  refine hr_iload hC dX21_expression_113 rfl ?_
                  refine hr_iload_n hC dX21_expression_115 rfl ?_
                  obtain ⟨c52, h⟩ := hk_ok h
                  obtain ⟨σ53, hσ53, h⟩ := hl_ok h
                  refine hs_iast hC A23_20 c52 dX21_expression_116 ?_
                  rw [← hσ53]
                  refine hr_aload_n hC dX21_expression_117 rfl ?_
                  refine hr_gA hC F23_21 rfl dX21_expression_118 q2863 ?_
                  refine hr_iload hC dX21_expression_121 rfl ?_
                  refine hr_iload_n hC dX21_expression_123 rfl ?_
                  obtain ⟨c54, h⟩ := hk_ok h
                  obtain ⟨σ55, hσ55, h⟩ := hl_ok h
                  refine hs_iast hC A23_21 c54 dX21_expression_124 ?_
                  rw [← hσ55]
                  refine hr_aload_n hC dX21_expression_125 rfl ?_
                  refine hr_gA hC F23_22 rfl dX21_expression_126 q2864 ?_
                  refine hr_iload hC dX21_expression_129 rfl ?_
                  refine hr_iload hC dX21_expression_131 rfl ?_
                  obtain ⟨c56, h⟩ := hk_ok h
                  obtain ⟨σ57, hσ57, h⟩ := hl_ok h
                  refine hs_iast hC A23_22 c56 dX21_expression_133 ?_
                  rw [← hσ57]
                  refine hr_iload hC dX21_expression_134 rfl ?_
                  refine hr_istore_n hC dX21_expression_136 (by decide) ?_
                  obtain rfl := Option.some.inj h
                  exact hr_sub _ rfl (J20 rfl)
                · rw [hv_1 z38] at h
                  obtain rfl := Option.some.inj h
                  exact hs_callVx (HX z38) hem 23 [] _ dX21_expression_59 q3263 q3265 qs203 q335 q3266 np_X21 rfl OB_23 pd_X21_expression (Nat.le_of_ble_eq_true rfl) hd1 (hc_M1 (r := r34) (IH _ _ _ _ e35 am) z38) (hc_rb rfl) rfl
              · rw [hv_1 z33] at h
                obtain rfl := Option.some.inj h
                exact hs_callVx (HX z33) hem 23 [] _ dX21_expression_55 q3223 q3225 qs193 q335 q3226 np_X21 rfl OB_23 pd_X21_opens (Nat.le_of_ble_eq_true rfl) hd1 (hc_M1 (r := r29) (okX21_opens l E A (d - 1)  (by omega)  e30 am) z33) (hc_rb rfl) rfl
            · rw [hv_1 z28] at h
              obtain rfl := Option.some.inj h
              exact hs_callVx (HX z28) hem 23 [_] _ dX21_expression_51 q3271 q3273 qs205 q335 q3274 np_X21 rfl OB_23 pd_X21_stands_2 (Nat.le_of_ble_eq_true rfl) hd1 (hc_M1 (r := r24) (okX21_stands_2 l E A (d - 1)  (by omega)  e25 am) z28) (hc_rb rfl) rfl
      refine hr_if_eq (x := _) hC 30 dX21_expression_21 (by decide) (fun c60 => ?_) (fun c60 => ?_)
      · refine hr_iload_n hC dX21_expression_30 rfl ?_
        exact hr_sub _ rfl (J58 _ (by first | (rw [if_pos c60]; done) | (simp only [if_pos c60]; done) | rfl))
      · refine hr_iconst (v := (-1)) hC dX21_expression_24 rfl ?_
        refine hr_iload_n hC dX21_expression_25 rfl ?_
        refine hr_isub hC dX21_expression_26 ?_
        refine hr_goto hC 31 dX21_expression_27 (by decide) ?_
        exact hr_sub _ rfl (J58 _ (by first | (rw [if_neg c60]; done) | (simp only [if_neg c60]; done) | rfl))
    refine hr_if_ge (x := _) hC 18 dX21_expression_11 (by decide) (fun c63 => ?_) (fun c63 => ?_)
    · refine hr_iconst (v := 0) hC dX21_expression_18 rfl ?_
      exact hr_sub _ rfl (J61 _ (by first | (rw [if_pos c63]; done) | (simp only [if_pos c63]; done) | rfl))
    · refine hr_iconst (v := 1) hC dX21_expression_14 rfl ?_
      refine hr_goto hC 19 dX21_expression_15 (by decide) ?_
      exact hr_sub _ rfl (J61 _ (by first | (rw [if_neg c63]; done) | (simp only [if_neg c63]; done) | rfl))
  · rw [ht_1 z5] at h
    obtain rfl := Option.some.inj h
    exact hs_callVx (HX z5) hem 23 [] _ dX21_expression_6 q3239 q3241 qs197 q335 q3242 np_X21 rfl OB_23 pd_X21_conditional (Nat.le_of_ble_eq_true rfl) hd1 (hc_M1 (r := r1) (IH _ _ _ _ e2 am) z5) (hc_rb rfl) rfl
def lp_X21_call_46 (n : Nat) (k0 : Nat) (rec : Nat → List Int32 → hc_St → Option (Nat × Int32 × hc_St)) : Nat → Int32 → Int32 → hc_St → Option (Nat × hc_St × Int32)
  | 0, _, _, _ => none
  | m + 1, y2, y3, σ => Option.bind (fm_X21_takes 80 σ) fun r30 => if r30.1 = 0 then (some (0, r30.2, 0)) else (Option.bind (rec 5 [] r30.2) fun r36 => hv r36 (0) <| hk (inb y3 (gL r36.2.2 23 25)) <| hl (pC r36.2.2 23 25 y3 r36.2.1) fun σ42 => hk (inb y2 (gL σ42 23 27)) <| hk (inb r36.2.1 (gL σ42 23 27)) <| Option.bind (fm_X21_deeper ((gC σ42 23 27 y2)) ((1 + ((gC σ42 23 27 r36.2.1)))) σ42) fun r45 => hk (inb y2 (gL σ42 23 27)) <| hl (pC σ42 23 27 y2 r45) fun σ50 => lp_X21_call_46 n k0 rec m y2 r36.2.1 σ50)
/-- HomeCompilerModel.call(I)I -/
def bd_X21_call (n : Nat) (k0 : Nat) (rec : Nat → List Int32 → hc_St → Option (Nat × Int32 × hc_St)) (x1 : Int32) (σ : hc_St) : Option (Nat × Int32 × hc_St) := Option.bind (fm_X21_make 3 x1 σ) fun r1 => Option.bind (fm_X21_opens  r1.2) fun r5 => ht r5 <| Option.bind (fm_X21_is 75 r5.2.2) fun r10 => Option.bind (α := Nat × hc_St × Int32) (if r10 = 0 then (Option.bind (rec 5 [] r5.2.2) fun r20 => hv r20 (0) <| hk (inb r1.1 (gL r20.2.2 23 21)) <| hl (pC r20.2.2 23 21 r1.1 r20.2.1) fun σ26 => hk (inb r20.2.1 (gL σ26 23 27)) <| hk (inb r1.1 (gL σ26 23 27)) <| hl (pC σ26 23 27 r1.1 ((1 + ((gC σ26 23 27 r20.2.1))))) fun σ29 => Option.bind (lp_X21_call_46 n k0 rec n r1.1 r20.2.1 σ29) fun r51 => hw r51 (0) <| some (0, r51.2.1, (0 : Int32))) else (some (0, r5.2.2, (0 : Int32)))) fun r16 => hu r16 <| Option.bind (fm_X21_closes 75 r16.2.1) fun r56 => ht r56 <| some (0, r1.1, r56.2.2)
set_option maxRecDepth 20000 in
set_option maxHeartbeats 4000000 in
theorem ll_X21_call_46 {l : Launch} {E : hc_E} {A : Nat → Prop} {am : Nat → Nat → Nat} {d : Nat} {kk : Nat} {X : hc_X} (n : Nat) (k0 : Nat) (rec : Nat → List Int32 → hc_St → Option (Nat × Int32 × hc_St)) (hD : kk + 16 ≤ d) (hem : X.2.2.2.2.2.2.2.2.2.1.exceptionTable.isEmpty = true) (IH : ∀ (w : Nat) (a : List Int32) (σ : hc_St) (r : (Nat × Int32 × hc_St)), rec w a σ = some r → ∀ am, okg_X21_conditional l E A (d - 1) am w a σ r) {oc : hc_Oc} {σe : hc_St} (hC : hc_C hc_V0 E cX21_call 5 RX21 (some .int) d oc σe (l, A, am, []) X) : ∀ (m : Nat) (σ : hc_St) (y2 : Int32) (y3 : Int32) (rl : Nat × hc_St × Int32) (am1 : Nat → Nat → Nat), lp_X21_call_46 n k0 rec m y2 y3 σ = some rl → (rl.1 = 0 → hc_At hc_V0 E 5 X 99 [(0, .ref (E.2.1 23)), (2, .int y2)] [] rl.2.1 am1 []) → (rl.1 ≠ 0 → hc_C hc_V0 E cX21_call 5 RX21 (some .int) d (.inr rl.1) rl.2.1 (l, A, am, []) X) → hc_At hc_V0 E 5 X 46 [(0, .ref (E.2.1 23)), (2, .int y2), (3, .int y3)] [] σ am1 [] := by
  have hd1 : 1 ≤ d := by omega
  have hd8 : 9 ≤ d := by omega
  have hd12 : 12 ≤ d := by omega
  intro m
  induction m with
  | zero =>
    intro σ y2 y3 rl am1 h
    cases h
  | succ m ih =>
    intro σ y2 y3 rl am1 h JX HX
    rw [lp_X21_call_46] at h
    refine hr_aload_n hC dX21_call_46 rfl ?_
    refine hr_ldcs (v := 80) 80 hC dX21_call_47 (List.mem_of_getElem? (i := 80) rfl) (by decide) rfl ?_
    obtain ⟨r30, e31, h⟩ := hx_bind h
    refine hs_callV0 hC 23 [_] _ dX21_call_49 q3231 q3233 qs195 q335 q3234 np_X21 rfl OB_23 pd_X21_takes (Nat.le_of_ble_eq_true rfl) hd1 (okX21_takes l E A (d - 1)  (by omega)  e31 am1) rfl ?_
    refine hr_if_eq (x := _) hC 99 dX21_call_52 (by decide) (fun c35 => ?_) (fun c35 => ?_)
    · rw [if_pos c35] at h
      obtain rfl := Option.some.inj h
      exact hr_sub _ rfl (JX rfl)
    · rw [if_neg c35] at h
      refine hr_aload_n hC dX21_call_55 rfl ?_
      obtain ⟨r36, e37, h⟩ := hx_bind h
      by_cases z40 : r36.1 = 0
      · rw [hv_0 z40] at h
        refine hs_callV0 hC 23 [] _ dX21_call_56 q3263 q3265 qs203 q335 q3266 np_X21 rfl OB_23 pd_X21_expression (Nat.le_of_ble_eq_true rfl) hd1 (hc_M0 (r := r36) (IH _ _ _ _ e37 am1) z40) rfl ?_
        refine hr_istore hC dX21_call_59 (by decide) ?_
        refine hr_aload_n hC dX21_call_61 rfl ?_
        refine hr_gA hC F23_25 rfl dX21_call_62 q2867 ?_
        refine hr_iload_n hC dX21_call_65 rfl ?_
        refine hr_iload hC dX21_call_66 rfl ?_
        obtain ⟨c41, h⟩ := hk_ok h
        obtain ⟨σ42, hσ42, h⟩ := hl_ok h
        refine hs_iast hC A23_25 c41 dX21_call_68 ?_
        rw [← hσ42]
        refine hr_iload hC dX21_call_69 rfl ?_
        refine hr_istore_n hC dX21_call_71 (by decide) ?_
        refine hr_aload_n hC dX21_call_72 rfl ?_
        refine hr_gA hC F23_27 rfl dX21_call_73 q2869 ?_
        refine hr_iload_n hC dX21_call_76 rfl ?_
        refine hr_aload_n hC dX21_call_77 rfl ?_
        refine hr_gA hC F23_27 rfl dX21_call_78 q2869 ?_
        refine hr_iload_n hC dX21_call_81 rfl ?_
        obtain ⟨c43, h⟩ := hk_ok h
        refine hs_iald hC A23_27 c43 dX21_call_82 ?_
        refine hr_iconst (v := 1) hC dX21_call_83 rfl ?_
        refine hr_aload_n hC dX21_call_84 rfl ?_
        refine hr_gA hC F23_27 rfl dX21_call_85 q2869 ?_
        refine hr_iload hC dX21_call_88 rfl ?_
        obtain ⟨c44, h⟩ := hk_ok h
        refine hs_iald hC A23_27 c44 dX21_call_90 ?_
        refine hr_iadd hC dX21_call_91 ?_
        obtain ⟨r45, e46, h⟩ := hx_bind h
        refine hs_callS0 hC [_, _] _ dX21_call_92 q3275 q3276 q335 q3277 np_X21 rfl pd_X21_deeper (Nat.le_of_ble_eq_true rfl) hd1 (okX21_deeper l E A (d - 1)  (by omega)  e46 am1) rfl ?_
        obtain ⟨c49, h⟩ := hk_ok h
        obtain ⟨σ50, hσ50, h⟩ := hl_ok h
        refine hs_iast hC A23_27 c49 dX21_call_95 ?_
        rw [← hσ50]
        refine hr_goto hC 46 dX21_call_96 (by decide) ?_
        exact hr_sub _ rfl (ih _ _ _ _ am1 h JX HX)
      · rw [hv_1 z40] at h
        obtain rfl := Option.some.inj h
        exact hs_callVx (HX z40) hem 23 [] _ dX21_call_56 q3263 q3265 qs203 q335 q3266 np_X21 rfl OB_23 pd_X21_expression (Nat.le_of_ble_eq_true rfl) hd1 (hc_M1 (r := r36) (IH _ _ _ _ e37 am1) z40) (hc_rb rfl) rfl
set_option maxRecDepth 20000 in
set_option maxHeartbeats 4000000 in
theorem okbX21_call (l : Launch) (E : hc_E) (A : Nat → Prop) (d : Nat) {kk : Nat} (n : Nat) (k0 : Nat) (rec : Nat → List Int32 → hc_St → Option (Nat × Int32 × hc_St)) (hD : kk + 16 ≤ d) (IH : ∀ (w : Nat) (a : List Int32) (σ : hc_St) (r : (Nat × Int32 × hc_St)), rec w a σ = some r → ∀ am, okg_X21_conditional l E A (d - 1) am w a σ r) {x1 : Int32} {σ : hc_St} {r : (Nat × Int32 × hc_St)} (h : bd_X21_call n k0 rec x1 σ = some r) (am : Nat → Nat → Nat) : hc_M l hc_V0 yX21_call (ws_ yX21_call cX21_call 5 (some .int)) d E A [.ref (E.2.1 23), .int x1] am [] σ (hc_ot (fun v => some (.int v)) r) r.2.2 := by
  have hd1 : 1 ≤ d := by omega
  have hd8 : 9 ≤ d := by omega
  have hd12 : 12 ≤ d := by omega
  refine hc_enter2 (own := RX21) [(0, .ref (E.2.1 23)), (1, .int x1)] pl_X21 rfl hc_V0_st hc_G0_nd rfl (Nat.le_of_ble_eq_true rfl) (fun X hC hem => ?_)
  have HX := fun z => hc_CX hC z
  unfold bd_X21_call at h
  refine hr_aload_n hC dX21_call_0 rfl ?_
  refine hr_iconst (v := 3) hC dX21_call_1 rfl ?_
  refine hr_iload_n hC dX21_call_2 rfl ?_
  obtain ⟨r1, e2, h⟩ := hx_bind h
  refine hs_callV0 hC 23 [_, _] _ dX21_call_3 q3194 q3196 qs188 q335 q3197 np_X21 rfl OB_23 pd_X21_make (Nat.le_of_ble_eq_true rfl) hd1 (okX21_make l E A (d - 1)  (by omega)  e2 am) rfl ?_
  refine hr_istore_n hC dX21_call_6 (by decide) ?_
  refine hr_aload_n hC dX21_call_7 rfl ?_
  obtain ⟨r5, e6, h⟩ := hx_bind h
  by_cases z9 : r5.1 = 0
  · rw [ht_0 z9] at h
    refine hs_callV0 hC 23 [] _ dX21_call_8 q3223 q3225 qs193 q335 q3226 np_X21 rfl OB_23 pd_X21_opens (Nat.le_of_ble_eq_true rfl) hd1 (hc_M0 (r := r5) (okX21_opens l E A (d - 1)  (by omega)  e6 am) z9) rfl ?_
    refine hr_aload_n hC dX21_call_11 rfl ?_
    refine hr_ldcs (v := 75) 75 hC dX21_call_12 (List.mem_of_getElem? (i := 75) rfl) (by decide) rfl ?_
    obtain ⟨r10, e11, h⟩ := hx_bind h
    refine hs_callV0 hC 23 [_] _ dX21_call_14 q3202 q3204 qs190 q335 q3205 np_X21 rfl OB_23 pd_X21_is (Nat.le_of_ble_eq_true rfl) hd1 (okX21_is l E A (d - 1)  (by omega)  e11 am) rfl ?_
    obtain ⟨r16, e17, h⟩ := hx_bind h
    have J18 : r16.1 = 0 → hc_At hc_V0 E 5 X 99 [(0, .ref (E.2.1 23)), (2, .int r1.1)] [] r16.2.1 am [] := by
      intro z19
      rw [hu_0 z19] at h
      refine hr_aload_n hC dX21_call_99 rfl ?_
      refine hr_ldcs (v := 75) 75 hC dX21_call_100 (List.mem_of_getElem? (i := 75) rfl) (by decide) rfl ?_
      obtain ⟨r56, e57, h⟩ := hx_bind h
      by_cases z60 : r56.1 = 0
      · rw [ht_0 z60] at h
        refine hs_callV0 hC 23 [_] _ dX21_call_102 q3278 q3280 qs206 q335 q3281 np_X21 rfl OB_23 pd_X21_closes (Nat.le_of_ble_eq_true rfl) hd1 (hc_M0 (r := r56) (okX21_closes l E A (d - 1)  (by omega)  e57 am) z60) rfl ?_
        refine hr_iload_n hC dX21_call_105 rfl ?_
        obtain rfl := Option.some.inj h
        exact hr_iret hC dX21_call_106
      · rw [ht_1 z60] at h
        obtain rfl := Option.some.inj h
        exact hs_callVx (HX z60) hem 23 [_] _ dX21_call_102 q3278 q3280 qs206 q335 q3281 np_X21 rfl OB_23 pd_X21_closes (Nat.le_of_ble_eq_true rfl) hd1 (hc_M1 (r := r56) (okX21_closes l E A (d - 1)  (by omega)  e57 am) z60) (hc_rb rfl) rfl
    have HX : r16.1 ≠ 0 → hc_C hc_V0 E cX21_call 5 RX21 (some .int) d (.inr r16.1) r16.2.1 (l, A, am, []) X := by
      intro z19
      rw [hu_1 z19] at h
      obtain rfl := Option.some.inj h
      exact HX z19
    clear h
    have h := e17
    refine hr_if_ne (x := _) hC 99 dX21_call_17 (by decide) (fun c15 => ?_) (fun c15 => ?_)
    · rw [if_neg c15] at h
      obtain rfl := Option.some.inj h
      exact hr_sub _ rfl (J18 rfl)
    · rw [if_pos c15] at h
      refine hr_aload_n hC dX21_call_20 rfl ?_
      obtain ⟨r20, e21, h⟩ := hx_bind h
      by_cases z24 : r20.1 = 0
      · rw [hv_0 z24] at h
        refine hs_callV0 hC 23 [] _ dX21_call_21 q3263 q3265 qs203 q335 q3266 np_X21 rfl OB_23 pd_X21_expression (Nat.le_of_ble_eq_true rfl) hd1 (hc_M0 (r := r20) (IH _ _ _ _ e21 am) z24) rfl ?_
        refine hr_istore_n hC dX21_call_24 (by decide) ?_
        refine hr_aload_n hC dX21_call_25 rfl ?_
        refine hr_gA hC F23_21 rfl dX21_call_26 q2863 ?_
        refine hr_iload_n hC dX21_call_29 rfl ?_
        refine hr_iload_n hC dX21_call_30 rfl ?_
        obtain ⟨c25, h⟩ := hk_ok h
        obtain ⟨σ26, hσ26, h⟩ := hl_ok h
        refine hs_iast hC A23_21 c25 dX21_call_31 ?_
        rw [← hσ26]
        refine hr_aload_n hC dX21_call_32 rfl ?_
        refine hr_gA hC F23_27 rfl dX21_call_33 q2869 ?_
        refine hr_iload_n hC dX21_call_36 rfl ?_
        refine hr_iconst (v := 1) hC dX21_call_37 rfl ?_
        refine hr_aload_n hC dX21_call_38 rfl ?_
        refine hr_gA hC F23_27 rfl dX21_call_39 q2869 ?_
        refine hr_iload_n hC dX21_call_42 rfl ?_
        obtain ⟨c27, h⟩ := hk_ok h
        refine hs_iald hC A23_27 c27 dX21_call_43 ?_
        refine hr_iadd hC dX21_call_44 ?_
        obtain ⟨c28, h⟩ := hk_ok h
        obtain ⟨σ29, hσ29, h⟩ := hl_ok h
        refine hs_iast hC A23_27 c28 dX21_call_45 ?_
        rw [← hσ29]
        obtain ⟨r51, e52, h⟩ := hx_bind h
        refine hr_sub _ rfl (ll_X21_call_46 n k0 rec hD hem IH hC n _ _ _ _ am e52 (fun z54 => ?_) (fun z54 => ?_))
        · rw [hw_0 z54] at h
          obtain rfl := Option.some.inj h
          exact hr_sub _ rfl (J18 rfl)
        · rw [hw_1 z54] at h
          obtain rfl := Option.some.inj h
          exact HX z54
      · rw [hv_1 z24] at h
        obtain rfl := Option.some.inj h
        exact hs_callVx (HX z24) hem 23 [] _ dX21_call_21 q3263 q3265 qs203 q335 q3266 np_X21 rfl OB_23 pd_X21_expression (Nat.le_of_ble_eq_true rfl) hd1 (hc_M1 (r := r20) (IH _ _ _ _ e21 am) z24) (hc_rb rfl) rfl
  · rw [ht_1 z9] at h
    obtain rfl := Option.some.inj h
    exact hs_callVx (HX z9) hem 23 [] _ dX21_call_8 q3223 q3225 qs193 q335 q3226 np_X21 rfl OB_23 pd_X21_opens (Nat.le_of_ble_eq_true rfl) hd1 (hc_M1 (r := r5) (okX21_opens l E A (d - 1)  (by omega)  e6 am) z9) (hc_rb rfl) rfl
def rc_X21_conditional (n : Nat) (k0 : Nat) : Nat → Nat → List Int32 → hc_St → Option (Nat × Int32 × hc_St)
  | 0, _, _, _ => none
  | k + 1, w, a, σ => match w with
    | 0 => bd_X21_conditional n k0 (rc_X21_conditional n k0 k)  σ
    | 1 => bd_X21_binary n k0 (rc_X21_conditional n k0 k)  σ
    | 2 => bd_X21_unary n k0 (rc_X21_conditional n k0 k)  σ
    | 3 => bd_X21_postfix n k0 (rc_X21_conditional n k0 k)  σ
    | 4 => bd_X21_primary n k0 (rc_X21_conditional n k0 k)  σ
    | 5 => bd_X21_expression n k0 (rc_X21_conditional n k0 k)  σ
    | 6 => bd_X21_call n k0 (rc_X21_conditional n k0 k) (a.getD 0 0) σ
    | _ => none
theorem okr_X21_conditional (l : Launch) (E : hc_E) (A : Nat → Prop) (n : Nat) (k0 : Nat) : ∀ (k d : Nat), k + 16 ≤ d → ∀ (w : Nat) (a : List Int32) (σ : hc_St) (r : (Nat × Int32 × hc_St)), rc_X21_conditional n k0 k w a σ = some r → ∀ am, okg_X21_conditional l E A d am w a σ r
  | 0, d, _, w, a, σ, r, h, am => by cases h
  | k + 1, d, hd, w, a, σ, r, h, am => by
    have IH := okr_X21_conditional l E A n k0 k (d - 1) (by omega)
    match w, h with
    | 0, h => exact okbX21_conditional l E A d (kk := k) n k0 (rc_X21_conditional n k0 k) (by omega) IH h am
    | 1, h => exact okbX21_binary l E A d (kk := k) n k0 (rc_X21_conditional n k0 k) (by omega) IH h am
    | 2, h => exact okbX21_unary l E A d (kk := k) n k0 (rc_X21_conditional n k0 k) (by omega) IH h am
    | 3, h => exact okbX21_postfix l E A d (kk := k) n k0 (rc_X21_conditional n k0 k) (by omega) IH h am
    | 4, h => exact okbX21_primary l E A d (kk := k) n k0 (rc_X21_conditional n k0 k) (by omega) IH h am
    | 5, h => exact okbX21_expression l E A d (kk := k) n k0 (rc_X21_conditional n k0 k) (by omega) IH h am
    | 6, h => exact okbX21_call l E A d (kk := k) n k0 (rc_X21_conditional n k0 k) (by omega) IH h am
    | w + 7, h => trivial
def fm_X21_conditional (n : Nat) (k0 : Nat)  (σ : hc_St) : Option (Nat × Int32 × hc_St) := rc_X21_conditional n k0 k0 0 [] σ
theorem okX21_conditional (l : Launch) (E : hc_E) (A : Nat → Prop) (d : Nat) (n : Nat) (k0 : Nat) (hD : k0 + 16 ≤ d)   {σ : hc_St} {r : (Nat × Int32 × hc_St)} (h : fm_X21_conditional n k0  σ = some r) (am : Nat → Nat → Nat) : hc_M l hc_V0 yX21_conditional (ws_ yX21_conditional cX21_conditional 7 (some .int)) d E A [.ref (E.2.1 23)] am [] σ (hc_ot (fun v => some (.int v)) r) r.2.2 := okr_X21_conditional l E A n k0 k0 d hD 0 _ _ _ h am
def fm_X21_binary (n : Nat) (k0 : Nat)  (σ : hc_St) : Option (Nat × Int32 × hc_St) := rc_X21_conditional n k0 k0 1 [] σ
theorem okX21_binary (l : Launch) (E : hc_E) (A : Nat → Prop) (d : Nat) (n : Nat) (k0 : Nat) (hD : k0 + 16 ≤ d)   {σ : hc_St} {r : (Nat × Int32 × hc_St)} (h : fm_X21_binary n k0  σ = some r) (am : Nat → Nat → Nat) : hc_M l hc_V0 yX21_binary (ws_ yX21_binary cX21_binary 5 (some .int)) d E A [.ref (E.2.1 23)] am [] σ (hc_ot (fun v => some (.int v)) r) r.2.2 := okr_X21_conditional l E A n k0 k0 d hD 1 _ _ _ h am
def fm_X21_unary (n : Nat) (k0 : Nat)  (σ : hc_St) : Option (Nat × Int32 × hc_St) := rc_X21_conditional n k0 k0 2 [] σ
theorem okX21_unary (l : Launch) (E : hc_E) (A : Nat → Prop) (d : Nat) (n : Nat) (k0 : Nat) (hD : k0 + 16 ≤ d)   {σ : hc_St} {r : (Nat × Int32 × hc_St)} (h : fm_X21_unary n k0  σ = some r) (am : Nat → Nat → Nat) : hc_M l hc_V0 yX21_unary (ws_ yX21_unary cX21_unary 6 (some .int)) d E A [.ref (E.2.1 23)] am [] σ (hc_ot (fun v => some (.int v)) r) r.2.2 := okr_X21_conditional l E A n k0 k0 d hD 2 _ _ _ h am
def fm_X21_postfix (n : Nat) (k0 : Nat)  (σ : hc_St) : Option (Nat × Int32 × hc_St) := rc_X21_conditional n k0 k0 3 [] σ
theorem okX21_postfix (l : Launch) (E : hc_E) (A : Nat → Prop) (d : Nat) (n : Nat) (k0 : Nat) (hD : k0 + 16 ≤ d)   {σ : hc_St} {r : (Nat × Int32 × hc_St)} (h : fm_X21_postfix n k0  σ = some r) (am : Nat → Nat → Nat) : hc_M l hc_V0 yX21_postfix (ws_ yX21_postfix cX21_postfix 3 (some .int)) d E A [.ref (E.2.1 23)] am [] σ (hc_ot (fun v => some (.int v)) r) r.2.2 := okr_X21_conditional l E A n k0 k0 d hD 3 _ _ _ h am
def fm_X21_primary (n : Nat) (k0 : Nat)  (σ : hc_St) : Option (Nat × Int32 × hc_St) := rc_X21_conditional n k0 k0 4 [] σ
theorem okX21_primary (l : Launch) (E : hc_E) (A : Nat → Prop) (d : Nat) (n : Nat) (k0 : Nat) (hD : k0 + 16 ≤ d)   {σ : hc_St} {r : (Nat × Int32 × hc_St)} (h : fm_X21_primary n k0  σ = some r) (am : Nat → Nat → Nat) : hc_M l hc_V0 yX21_primary (ws_ yX21_primary cX21_primary 3 (some .int)) d E A [.ref (E.2.1 23)] am [] σ (hc_ot (fun v => some (.int v)) r) r.2.2 := okr_X21_conditional l E A n k0 k0 d hD 4 _ _ _ h am
def fm_X21_expression (n : Nat) (k0 : Nat)  (σ : hc_St) : Option (Nat × Int32 × hc_St) := rc_X21_conditional n k0 k0 5 [] σ
theorem okX21_expression (l : Launch) (E : hc_E) (A : Nat → Prop) (d : Nat) (n : Nat) (k0 : Nat) (hD : k0 + 16 ≤ d)   {σ : hc_St} {r : (Nat × Int32 × hc_St)} (h : fm_X21_expression n k0  σ = some r) (am : Nat → Nat → Nat) : hc_M l hc_V0 yX21_expression (ws_ yX21_expression cX21_expression 7 (some .int)) d E A [.ref (E.2.1 23)] am [] σ (hc_ot (fun v => some (.int v)) r) r.2.2 := okr_X21_conditional l E A n k0 k0 d hD 5 _ _ _ h am
def fm_X21_call (n : Nat) (k0 : Nat) (x1 : Int32) (σ : hc_St) : Option (Nat × Int32 × hc_St) := rc_X21_conditional n k0 k0 6 [x1] σ
theorem okX21_call (l : Launch) (E : hc_E) (A : Nat → Prop) (d : Nat) (n : Nat) (k0 : Nat) (hD : k0 + 16 ≤ d)  {x1 : Int32} {σ : hc_St} {r : (Nat × Int32 × hc_St)} (h : fm_X21_call n k0 x1 σ = some r) (am : Nat → Nat → Nat) : hc_M l hc_V0 yX21_call (ws_ yX21_call cX21_call 5 (some .int)) d E A [.ref (E.2.1 23), .int x1] am [] σ (hc_ot (fun v => some (.int v)) r) r.2.2 := okr_X21_conditional l E A n k0 k0 d hD 6 _ _ _ h am
/-- HomeCompilerModel.constant()I -/
def fm_X21_constant (n : Nat) (k0 : Nat)  (σ : hc_St) : Option (Nat × Int32 × hc_St) := Option.bind (fm_X21_conditional n k0 σ) fun r1 => ht r1 <| hl (α := Int32) ((if 0 ≤ r1.2.1 then r1.2.1 else (((-1)) - r1.2.1))) fun v8 => some (0, v8, r1.2.2)
set_option maxRecDepth 20000 in
set_option maxHeartbeats 4000000 in
theorem okX21_constant (l : Launch) (E : hc_E) (A : Nat → Prop) (d : Nat) (n : Nat) (k0 : Nat) (hD : 1 * k0 + 17 ≤ d)  {σ : hc_St} {r : (Nat × Int32 × hc_St)} (h : fm_X21_constant n k0  σ = some r) (am : Nat → Nat → Nat) : hc_M l hc_V0 yX21_constant (ws_ yX21_constant cX21_constant 2 (some .int)) d E A [.ref (E.2.1 23)] am [] σ (hc_ot (fun v => some (.int v)) r) r.2.2 := by
  have hd1 : 1 ≤ d := by omega
  have hd8 : 9 ≤ d := by omega
  have hd12 : 12 ≤ d := by omega
  refine hc_enter2 (own := RX21) [(0, .ref (E.2.1 23))] pl_X21 rfl hc_V0_st hc_G0_nd rfl (Nat.le_of_ble_eq_true rfl) (fun X hC hem => ?_)
  have HX := fun z => hc_CX hC z
  unfold fm_X21_constant at h
  refine hr_aload_n hC dX21_constant_0 rfl ?_
  obtain ⟨r1, e2, h⟩ := hx_bind h
  by_cases z5 : r1.1 = 0
  · rw [ht_0 z5] at h
    refine hs_callV0 hC 23 [] _ dX21_constant_1 q3239 q3241 qs197 q335 q3242 np_X21 rfl OB_23 pd_X21_conditional (Nat.le_of_ble_eq_true rfl) hd1 (hc_M0 (r := r1) (okX21_conditional l E A (d - 1) n k0 (by omega)  e2 am) z5) rfl ?_
    refine hr_istore_n hC dX21_constant_4 (by decide) ?_
    refine hr_iload_n hC dX21_constant_5 rfl ?_
    obtain ⟨v8, hv8, h⟩ := hl_ok h
    have J9 : ∀ w10 : Int32, (if 0 ≤ r1.2.1 then r1.2.1 else (((-1)) - r1.2.1)) = w10 → hc_At hc_V0 E 2 X 16 [] [.int w10] r1.2.2 am [] := by
      intro w10 hw10
      obtain rfl := hv8.trans hw10
      obtain rfl := Option.some.inj h
      exact hr_iret hC dX21_constant_16
    refine hr_if_ge (x := _) hC 15 dX21_constant_6 (by decide) (fun c11 => ?_) (fun c11 => ?_)
    · refine hr_iload_n hC dX21_constant_15 rfl ?_
      exact hr_sub _ rfl (J9 _ (by first | (rw [if_pos c11]; done) | (simp only [if_pos c11]; done) | rfl))
    · refine hr_iconst (v := (-1)) hC dX21_constant_9 rfl ?_
      refine hr_iload_n hC dX21_constant_10 rfl ?_
      refine hr_isub hC dX21_constant_11 ?_
      refine hr_goto hC 16 dX21_constant_12 (by decide) ?_
      exact hr_sub _ rfl (J9 _ (by first | (rw [if_neg c11]; done) | (simp only [if_neg c11]; done) | rfl))
  · rw [ht_1 z5] at h
    obtain rfl := Option.some.inj h
    exact hs_callVx (HX z5) hem 23 [] _ dX21_constant_1 q3239 q3241 qs197 q335 q3242 np_X21 rfl OB_23 pd_X21_conditional (Nat.le_of_ble_eq_true rfl) hd1 (hc_M1 (r := r1) (okX21_conditional l E A (d - 1) n k0 (by omega)  e2 am) z5) (hc_rb rfl) rfl
/-- HomeCompilerModel.hang(III)I -/
def fm_X21_hang  (x1 : Int32) (x2 : Int32) (x3 : Int32) (σ : hc_St) : Option (Int32 × hc_St) := Option.bind (α := hc_St) (if x2 < 0 then (some (σ)) else (hk (inb x2 (gL σ 23 25)) <| hl (pC σ 23 25 x2 x3) fun σ8 => some (σ8))) fun r3 => hl (α := Int32) ((if x1 < 0 then x3 else x1)) fun v11 => some (v11, r3)
set_option maxRecDepth 20000 in
set_option maxHeartbeats 4000000 in
theorem okX21_hang (l : Launch) (E : hc_E) (A : Nat → Prop) (d : Nat)  (hD : 1 ≤ d) {x1 : Int32} {x2 : Int32} {x3 : Int32} {σ : hc_St} {r : (Int32 × hc_St)} (h : fm_X21_hang  x1 x2 x3 σ = some r) (am : Nat → Nat → Nat) : hc_M l hc_V0 yX21_hang (ws_ yX21_hang cX21_hang 4 (some .int)) d E A [.ref (E.2.1 23), .int x1, .int x2, .int x3] am [] σ (.inl (some (.int r.1))) r.2 := by
  have hd1 : 1 ≤ d := by omega
  refine hc_enter2 (own := RX21) [(0, .ref (E.2.1 23)), (1, .int x1), (2, .int x2), (3, .int x3)] pl_X21 rfl hc_V0_st hc_G0_nd rfl (Nat.le_of_ble_eq_true rfl) (fun X hC hem => ?_)
  unfold fm_X21_hang at h
  refine hr_iload_n hC dX21_hang_0 rfl ?_
  obtain ⟨r3, e4, h⟩ := hx_bind h
  have J5 : hc_At hc_V0 E 4 X 11 [(1, .int x1), (3, .int x3)] [] r3 am [] := by
    refine hr_iload_n hC dX21_hang_11 rfl ?_
    obtain ⟨v11, hv11, h⟩ := hl_ok h
    have J12 : ∀ w13 : Int32, (if x1 < 0 then x3 else x1) = w13 → hc_At hc_V0 E 4 X 20 [] [.int w13] r3 am [] := by
      intro w13 hw13
      obtain rfl := hv11.trans hw13
      obtain rfl := Option.some.inj h
      exact hr_iret hC dX21_hang_20
    refine hr_if_lt (x := _) hC 19 dX21_hang_12 (by decide) (fun c14 => ?_) (fun c14 => ?_)
    · refine hr_iload_n hC dX21_hang_19 rfl ?_
      exact hr_sub _ rfl (J12 _ (by first | (rw [if_pos c14]; done) | (simp only [if_pos c14]; done) | rfl))
    · refine hr_iload_n hC dX21_hang_15 rfl ?_
      refine hr_goto hC 20 dX21_hang_16 (by decide) ?_
      exact hr_sub _ rfl (J12 _ (by first | (rw [if_neg c14]; done) | (simp only [if_neg c14]; done) | rfl))
  clear h
  have h := e4
  refine hr_if_lt (x := _) hC 11 dX21_hang_1 (by decide) (fun c2 => ?_) (fun c2 => ?_)
  · rw [if_pos c2] at h
    obtain rfl := Option.some.inj h
    exact hr_sub _ rfl (J5)
  · rw [if_neg c2] at h
    refine hr_aload_n hC dX21_hang_4 rfl ?_
    refine hr_gA hC F23_25 rfl dX21_hang_5 q2867 ?_
    refine hr_iload_n hC dX21_hang_8 rfl ?_
    refine hr_iload_n hC dX21_hang_9 rfl ?_
    obtain ⟨c7, h⟩ := hk_ok h
    obtain ⟨σ8, hσ8, h⟩ := hl_ok h
    refine hs_iast hC A23_25 c7 dX21_hang_10 ?_
    rw [← hσ8]
    obtain rfl := Option.some.inj h
    exact hr_sub _ rfl (J5)
/-- HomeCompilerModel.add(I)V -/
def fm_X21_add  (x1 : Int32) (σ : hc_St) : Option hc_St := Option.bind (fm_X21_hang ((gI σ 23 28)) ((gI σ 23 29)) x1 σ) fun r1 => hl (pI r1.2 23 28 r1.1) fun σ5 => hl (pI σ5 23 29 x1) fun σ6 => some σ6
set_option maxRecDepth 20000 in
set_option maxHeartbeats 4000000 in
theorem okX21_add (l : Launch) (E : hc_E) (A : Nat → Prop) (d : Nat)  (hD : 2 ≤ d) {x1 : Int32} {σ : hc_St} {r : hc_St} (h : fm_X21_add  x1 σ = some r) (am : Nat → Nat → Nat) : hc_M l hc_V0 yX21_add (ws_ yX21_add cX21_add 2 none) d E A [.ref (E.2.1 23), .int x1] am [] σ (.inl none) r := by
  have hd1 : 1 ≤ d := by omega
  refine hc_enter2 (own := RX21) [(0, .ref (E.2.1 23)), (1, .int x1)] pl_X21 rfl hc_V0_st hc_G0_nd rfl (Nat.le_of_ble_eq_true rfl) (fun X hC hem => ?_)
  unfold fm_X21_add at h
  refine hr_aload_n hC dX21_add_0 rfl ?_
  refine hr_aload_n hC dX21_add_1 rfl ?_
  refine hr_aload_n hC dX21_add_2 rfl ?_
  refine hr_gI hC F23_28 dX21_add_3 q2870 ?_
  refine hr_aload_n hC dX21_add_6 rfl ?_
  refine hr_gI hC F23_29 dX21_add_7 q2871 ?_
  refine hr_iload_n hC dX21_add_10 rfl ?_
  obtain ⟨r1, e2, h⟩ := hx_bind h
  refine hs_callV0 hC 23 [_, _, _] _ dX21_add_11 q3302 q3304 qs212 q335 q3305 np_X21 rfl OB_23 pd_X21_hang (Nat.le_of_ble_eq_true rfl) hd1 (okX21_hang l E A (d - 1)  (by omega)  e2 am) rfl ?_
  obtain ⟨σ5, hσ5, h⟩ := hl_ok h
  refine hr_pI hC F23_28 PX21_28 dX21_add_14 q2870 ?_
  rw [← hσ5]
  refine hr_aload_n hC dX21_add_17 rfl ?_
  refine hr_iload_n hC dX21_add_18 rfl ?_
  obtain ⟨σ6, hσ6, h⟩ := hl_ok h
  refine hr_pI hC F23_29 PX21_29 dX21_add_19 q2871 ?_
  rw [← hσ6]
  obtain rfl := Option.some.inj h
  exact hr_vret hC dX21_add_22
def lp_X21_enumeration_31 (n : Nat) (k0 : Nat) : Nat → Int32 → Int32 → Int32 → hc_St → Option (Nat × hc_St × Int32)
  | 0, _, _, _, _ => none
  | m + 1, y1, y2, y3, σ => if y3 = 0 then (some (0, σ, 0)) else (Option.bind (fm_X21_name  σ) fun r13 => hv r13 (0) <| Option.bind (fm_X21_make 44 r13.2.1 r13.2.2) fun r18 => Option.bind (fm_X21_takes 84 r18.2) fun r22 => Option.bind (α := Nat × hc_St × Int32) (if r22.1 = 0 then (some (0, r22.2, (0 : Int32))) else (Option.bind (fm_X21_constant n k0 r22.2) fun r32 => hv r32 (0) <| hk (inb r18.1 (gL r32.2.2 23 21)) <| hl (pC r32.2.2 23 21 r18.1 r32.2.1) fun σ38 => some (0, σ38, (0 : Int32)))) fun r28 => hw r28 (0) <| hk (inb y1 (gL r28.2.1 23 21)) <| Option.bind (fm_X21_hang ((gC r28.2.1 23 21 y1)) y2 r18.1 r28.2.1) fun r40 => hk (inb y1 (gL r40.2 23 21)) <| hl (pC r40.2 23 21 y1 r40.1) fun σ45 => Option.bind (fm_X21_takes 80 σ45) fun r46 => lp_X21_enumeration_31 n k0 m y1 r18.1 r46.1 r46.2)
/-- HomeCompilerModel.enumeration()V -/
def fm_X21_enumeration (n : Nat) (k0 : Nat)  (σ : hc_St) : Option (Nat × Int32 × hc_St) := Option.bind (fm_X21_make 43 ((gI σ 23 15)) σ) fun r1 => hl (pI r1.2 23 15 ((((gI r1.2 23 15)) + 1))) fun σ5 => Option.bind (fm_X21_opensMark 76 σ5) fun r6 => ht r6 <| Option.bind (lp_X21_enumeration_31 n k0 n r1.1 ((-1)) 1 r6.2.2) fun r50 => hu r50 <| Option.bind (fm_X21_closes 77 r50.2.1) fun r55 => ht r55 <| Option.bind (fm_X21_take 81 r55.2.2) fun r60 => ht r60 <| Option.bind (fm_X21_add r1.1 r60.2.2) fun r65 => some (0, 0, r65)
set_option maxRecDepth 20000 in
set_option maxHeartbeats 4000000 in
theorem ll_X21_enumeration_31 {l : Launch} {E : hc_E} {A : Nat → Prop} {am : Nat → Nat → Nat} {d : Nat} {X : hc_X} (n : Nat) (k0 : Nat) (hD : 1 * k0 + 18 ≤ d) (hem : X.2.2.2.2.2.2.2.2.2.1.exceptionTable.isEmpty = true) {oc : hc_Oc} {σe : hc_St} (hC : hc_C hc_V0 E cX21_enumeration 5 RX21 none d oc σe (l, A, am, []) X) : ∀ (m : Nat) (σ : hc_St) (y1 : Int32) (y2 : Int32) (y3 : Int32) (rl : Nat × hc_St × Int32) (am1 : Nat → Nat → Nat), lp_X21_enumeration_31 n k0 m y1 y2 y3 σ = some rl → (rl.1 = 0 → hc_At hc_V0 E 5 X 99 [(0, .ref (E.2.1 23)), (1, .int y1)] [] rl.2.1 am1 []) → (rl.1 ≠ 0 → hc_C hc_V0 E cX21_enumeration 5 RX21 none d (.inr rl.1) rl.2.1 (l, A, am, []) X) → hc_At hc_V0 E 5 X 31 [(0, .ref (E.2.1 23)), (1, .int y1), (2, .int y2), (3, .int y3)] [] σ am1 [] := by
  have hd1 : 1 ≤ d := by omega
  have hd8 : 9 ≤ d := by omega
  have hd12 : 12 ≤ d := by omega
  intro m
  induction m with
  | zero =>
    intro σ y1 y2 y3 rl am1 h
    cases h
  | succ m ih =>
    intro σ y1 y2 y3 rl am1 h JX HX
    rw [lp_X21_enumeration_31] at h
    refine hr_iload_n hC dX21_enumeration_31 rfl ?_
    refine hr_if_eq (x := _) hC 99 dX21_enumeration_32 (by decide) (fun c12 => ?_) (fun c12 => ?_)
    · rw [if_pos c12] at h
      obtain rfl := Option.some.inj h
      exact hr_sub _ rfl (JX rfl)
    · rw [if_neg c12] at h
      refine hr_aload_n hC dX21_enumeration_35 rfl ?_
      refine hr_bipush (v := 44) hC dX21_enumeration_36 rfl ?_
      refine hr_aload_n hC dX21_enumeration_38 rfl ?_
      obtain ⟨r13, e14, h⟩ := hx_bind h
      by_cases z17 : r13.1 = 0
      · rw [hv_0 z17] at h
        refine hs_callV0 hC 23 [] _ dX21_enumeration_39 q3227 q3229 qs194 q335 q3230 np_X21 rfl OB_23 pd_X21_name (Nat.le_of_ble_eq_true rfl) hd1 (hc_M0 (r := r13) (okX21_name l E A (d - 1)  (by omega)  e14 am1) z17) rfl ?_
        obtain ⟨r18, e19, h⟩ := hx_bind h
        refine hs_callV0 hC 23 [_, _] _ dX21_enumeration_42 q3194 q3196 qs188 q335 q3197 np_X21 rfl OB_23 pd_X21_make (Nat.le_of_ble_eq_true rfl) hd1 (okX21_make l E A (d - 1)  (by omega)  e19 am1) rfl ?_
        refine hr_istore hC dX21_enumeration_45 (by decide) ?_
        refine hr_aload_n hC dX21_enumeration_47 rfl ?_
        refine hr_ldcs (v := 84) 84 hC dX21_enumeration_48 (List.mem_of_getElem? (i := 84) rfl) (by decide) rfl ?_
        obtain ⟨r22, e23, h⟩ := hx_bind h
        refine hs_callV0 hC 23 [_] _ dX21_enumeration_50 q3231 q3233 qs195 q335 q3234 np_X21 rfl OB_23 pd_X21_takes (Nat.le_of_ble_eq_true rfl) hd1 (okX21_takes l E A (d - 1)  (by omega)  e23 am1) rfl ?_
        obtain ⟨r28, e29, h⟩ := hx_bind h
        have J30 : r28.1 = 0 → hc_At hc_V0 E 5 X 67 [(0, .ref (E.2.1 23)), (1, .int y1), (2, .int y2), (4, .int r18.1)] [] r28.2.1 am1 [] := by
          intro z31
          rw [hw_0 z31] at h
          refine hr_aload_n hC dX21_enumeration_67 rfl ?_
          refine hr_gA hC F23_21 rfl dX21_enumeration_68 q2863 ?_
          refine hr_iload_n hC dX21_enumeration_71 rfl ?_
          refine hr_aload_n hC dX21_enumeration_72 rfl ?_
          refine hr_aload_n hC dX21_enumeration_73 rfl ?_
          refine hr_gA hC F23_21 rfl dX21_enumeration_74 q2863 ?_
          refine hr_iload_n hC dX21_enumeration_77 rfl ?_
          obtain ⟨c39, h⟩ := hk_ok h
          refine hs_iald hC A23_21 c39 dX21_enumeration_78 ?_
          refine hr_iload_n hC dX21_enumeration_79 rfl ?_
          refine hr_iload hC dX21_enumeration_80 rfl ?_
          obtain ⟨r40, e41, h⟩ := hx_bind h
          refine hs_callV0 hC 23 [_, _, _] _ dX21_enumeration_82 q3302 q3304 qs212 q335 q3305 np_X21 rfl OB_23 pd_X21_hang (Nat.le_of_ble_eq_true rfl) hd1 (okX21_hang l E A (d - 1)  (by omega)  e41 am1) rfl ?_
          obtain ⟨c44, h⟩ := hk_ok h
          obtain ⟨σ45, hσ45, h⟩ := hl_ok h
          refine hs_iast hC A23_21 c44 dX21_enumeration_85 ?_
          rw [← hσ45]
          refine hr_iload hC dX21_enumeration_86 rfl ?_
          refine hr_istore_n hC dX21_enumeration_88 (by decide) ?_
          refine hr_aload_n hC dX21_enumeration_89 rfl ?_
          refine hr_ldcs (v := 80) 80 hC dX21_enumeration_90 (List.mem_of_getElem? (i := 80) rfl) (by decide) rfl ?_
          obtain ⟨r46, e47, h⟩ := hx_bind h
          refine hs_callV0 hC 23 [_] _ dX21_enumeration_92 q3231 q3233 qs195 q335 q3234 np_X21 rfl OB_23 pd_X21_takes (Nat.le_of_ble_eq_true rfl) hd1 (okX21_takes l E A (d - 1)  (by omega)  e47 am1) rfl ?_
          refine hr_istore_n hC dX21_enumeration_95 (by decide) ?_
          refine hr_goto hC 31 dX21_enumeration_96 (by decide) ?_
          exact hr_sub _ rfl (ih _ _ _ _ _ am1 h JX HX)
        have HX : r28.1 ≠ 0 → hc_C hc_V0 E cX21_enumeration 5 RX21 none d (.inr r28.1) r28.2.1 (l, A, am, []) X := by
          intro z31
          rw [hw_1 z31] at h
          obtain rfl := Option.some.inj h
          exact HX z31
        clear h
        have h := e29
        refine hr_if_eq (x := _) hC 67 dX21_enumeration_53 (by decide) (fun c27 => ?_) (fun c27 => ?_)
        · rw [if_pos c27] at h
          obtain rfl := Option.some.inj h
          exact hr_sub _ rfl (J30 rfl)
        · rw [if_neg c27] at h
          refine hr_aload_n hC dX21_enumeration_56 rfl ?_
          refine hr_gA hC F23_21 rfl dX21_enumeration_57 q2863 ?_
          refine hr_iload hC dX21_enumeration_60 rfl ?_
          refine hr_aload_n hC dX21_enumeration_62 rfl ?_
          obtain ⟨r32, e33, h⟩ := hx_bind h
          by_cases z36 : r32.1 = 0
          · rw [hv_0 z36] at h
            refine hs_callV0 hC 23 [] _ dX21_enumeration_63 q3235 q3237 qs196 q335 q3238 np_X21 rfl OB_23 pd_X21_constant (Nat.le_of_ble_eq_true rfl) hd1 (hc_M0 (r := r32) (okX21_constant l E A (d - 1) n k0 (by omega)  e33 am1) z36) rfl ?_
            obtain ⟨c37, h⟩ := hk_ok h
            obtain ⟨σ38, hσ38, h⟩ := hl_ok h
            refine hs_iast hC A23_21 c37 dX21_enumeration_66 ?_
            rw [← hσ38]
            obtain rfl := Option.some.inj h
            exact hr_sub _ rfl (J30 rfl)
          · rw [hv_1 z36] at h
            obtain rfl := Option.some.inj h
            exact hs_callVx (HX z36) hem 23 [] _ dX21_enumeration_63 q3235 q3237 qs196 q335 q3238 np_X21 rfl OB_23 pd_X21_constant (Nat.le_of_ble_eq_true rfl) hd1 (hc_M1 (r := r32) (okX21_constant l E A (d - 1) n k0 (by omega)  e33 am1) z36) (hc_rb rfl) rfl
      · rw [hv_1 z17] at h
        obtain rfl := Option.some.inj h
        exact hs_callVx (HX z17) hem 23 [] _ dX21_enumeration_39 q3227 q3229 qs194 q335 q3230 np_X21 rfl OB_23 pd_X21_name (Nat.le_of_ble_eq_true rfl) hd1 (hc_M1 (r := r13) (okX21_name l E A (d - 1)  (by omega)  e14 am1) z17) (hc_rb rfl) rfl
set_option maxRecDepth 20000 in
set_option maxHeartbeats 4000000 in
theorem okX21_enumeration (l : Launch) (E : hc_E) (A : Nat → Prop) (d : Nat) (n : Nat) (k0 : Nat) (hD : 1 * k0 + 18 ≤ d)  {σ : hc_St} {r : (Nat × Int32 × hc_St)} (h : fm_X21_enumeration n k0  σ = some r) (am : Nat → Nat → Nat) : hc_M l hc_V0 yX21_enumeration (ws_ yX21_enumeration cX21_enumeration 5 none) d E A [.ref (E.2.1 23)] am [] σ (hc_ot (fun v => none) r) r.2.2 := by
  have hd1 : 1 ≤ d := by omega
  have hd8 : 9 ≤ d := by omega
  have hd12 : 12 ≤ d := by omega
  refine hc_enter2 (own := RX21) [(0, .ref (E.2.1 23))] pl_X21 rfl hc_V0_st hc_G0_nd rfl (Nat.le_of_ble_eq_true rfl) (fun X hC hem => ?_)
  have HX := fun z => hc_CX hC z
  unfold fm_X21_enumeration at h
  refine hr_aload_n hC dX21_enumeration_0 rfl ?_
  refine hr_bipush (v := 43) hC dX21_enumeration_1 rfl ?_
  refine hr_aload_n hC dX21_enumeration_3 rfl ?_
  refine hr_gI hC F23_15 dX21_enumeration_4 q2857 ?_
  obtain ⟨r1, e2, h⟩ := hx_bind h
  refine hs_callV0 hC 23 [_, _] _ dX21_enumeration_7 q3194 q3196 qs188 q335 q3197 np_X21 rfl OB_23 pd_X21_make (Nat.le_of_ble_eq_true rfl) hd1 (okX21_make l E A (d - 1)  (by omega)  e2 am) rfl ?_
  refine hr_istore_n hC dX21_enumeration_10 (by decide) ?_
  refine hr_aload_n hC dX21_enumeration_11 rfl ?_
  refine hr_dup hC dX21_enumeration_12 rfl ?_
  refine hr_gI hC F23_15 dX21_enumeration_13 q2857 ?_
  refine hr_iconst (v := 1) hC dX21_enumeration_16 rfl ?_
  refine hr_iadd hC dX21_enumeration_17 ?_
  obtain ⟨σ5, hσ5, h⟩ := hl_ok h
  refine hr_pI hC F23_15 PX21_15 dX21_enumeration_18 q2857 ?_
  rw [← hσ5]
  refine hr_aload_n hC dX21_enumeration_21 rfl ?_
  refine hr_ldcs (v := 76) 76 hC dX21_enumeration_22 (List.mem_of_getElem? (i := 76) rfl) (by decide) rfl ?_
  obtain ⟨r6, e7, h⟩ := hx_bind h
  by_cases z10 : r6.1 = 0
  · rw [ht_0 z10] at h
    refine hs_callV0 hC 23 [_] _ dX21_enumeration_24 q3198 q3200 qs189 q335 q3201 np_X21 rfl OB_23 pd_X21_opensMark (Nat.le_of_ble_eq_true rfl) hd1 (hc_M0 (r := r6) (okX21_opensMark l E A (d - 1)  (by omega)  e7 am) z10) rfl ?_
    refine hr_iconst (v := (-1)) hC dX21_enumeration_27 rfl ?_
    refine hr_istore_n hC dX21_enumeration_28 (by decide) ?_
    refine hr_iconst (v := 1) hC dX21_enumeration_29 rfl ?_
    refine hr_istore_n hC dX21_enumeration_30 (by decide) ?_
    obtain ⟨r50, e51, h⟩ := hx_bind h
    refine hr_sub _ rfl (ll_X21_enumeration_31 n k0 hD hem hC n _ _ _ _ _ am e51 (fun z53 => ?_) (fun z53 => ?_))
    · rw [hu_0 z53] at h
      refine hr_aload_n hC dX21_enumeration_99 rfl ?_
      refine hr_ldcs (v := 77) 77 hC dX21_enumeration_100 (List.mem_of_getElem? (i := 77) rfl) (by decide) rfl ?_
      obtain ⟨r55, e56, h⟩ := hx_bind h
      by_cases z59 : r55.1 = 0
      · rw [ht_0 z59] at h
        refine hs_callV0 hC 23 [_] _ dX21_enumeration_102 q3278 q3280 qs206 q335 q3281 np_X21 rfl OB_23 pd_X21_closes (Nat.le_of_ble_eq_true rfl) hd1 (hc_M0 (r := r55) (okX21_closes l E A (d - 1)  (by omega)  e56 am) z59) rfl ?_
        refine hr_aload_n hC dX21_enumeration_105 rfl ?_
        refine hr_ldcs (v := 81) 81 hC dX21_enumeration_106 (List.mem_of_getElem? (i := 81) rfl) (by decide) rfl ?_
        obtain ⟨r60, e61, h⟩ := hx_bind h
        by_cases z64 : r60.1 = 0
        · rw [ht_0 z64] at h
          refine hs_callV0 hC 23 [_] _ dX21_enumeration_108 q3282 q3284 qs207 q335 q3285 np_X21 rfl OB_23 pd_X21_take (Nat.le_of_ble_eq_true rfl) hd1 (hc_M0 (r := r60) (okX21_take l E A (d - 1)  (by omega)  e61 am) z64) rfl ?_
          refine hr_aload_n hC dX21_enumeration_111 rfl ?_
          refine hr_iload_n hC dX21_enumeration_112 rfl ?_
          obtain ⟨r65, e66, h⟩ := hx_bind h
          refine hs_callV0 hC 23 [_] _ dX21_enumeration_113 q3306 q3308 qs213 q335 q3309 np_X21 rfl OB_23 pd_X21_add (Nat.le_of_ble_eq_true rfl) hd1 (okX21_add l E A (d - 1)  (by omega)  e66 am) rfl ?_
          obtain rfl := Option.some.inj h
          exact hr_vret hC dX21_enumeration_116
        · rw [ht_1 z64] at h
          obtain rfl := Option.some.inj h
          exact hs_callVx (HX z64) hem 23 [_] _ dX21_enumeration_108 q3282 q3284 qs207 q335 q3285 np_X21 rfl OB_23 pd_X21_take (Nat.le_of_ble_eq_true rfl) hd1 (hc_M1 (r := r60) (okX21_take l E A (d - 1)  (by omega)  e61 am) z64) (hc_rb rfl) rfl
      · rw [ht_1 z59] at h
        obtain rfl := Option.some.inj h
        exact hs_callVx (HX z59) hem 23 [_] _ dX21_enumeration_102 q3278 q3280 qs206 q335 q3281 np_X21 rfl OB_23 pd_X21_closes (Nat.le_of_ble_eq_true rfl) hd1 (hc_M1 (r := r55) (okX21_closes l E A (d - 1)  (by omega)  e56 am) z59) (hc_rb rfl) rfl
    · rw [hu_1 z53] at h
      obtain rfl := Option.some.inj h
      exact HX z53
  · rw [ht_1 z10] at h
    obtain rfl := Option.some.inj h
    exact hs_callVx (HX z10) hem 23 [_] _ dX21_enumeration_24 q3198 q3200 qs189 q335 q3201 np_X21 rfl OB_23 pd_X21_opensMark (Nat.le_of_ble_eq_true rfl) hd1 (hc_M1 (r := r6) (okX21_opensMark l E A (d - 1)  (by omega)  e7 am) z10) (hc_rb rfl) rfl
/-- HomeCompilerModel.isType()Z -/
def fm_X21_isType   (σ : hc_St) : Option Int32 := Option.bind (fm_X21_isKey 0 σ) fun r1 => Option.bind (α := Int32) (if r1 = 0 then (Option.bind (fm_X21_isKey 1 σ) fun r11 => if r11 = 0 then (some (0)) else (some (1))) else (some (1))) fun r7 => hk (hb01 r7) <| some r7
set_option maxRecDepth 20000 in
set_option maxHeartbeats 4000000 in
theorem okX21_isType (l : Launch) (E : hc_E) (A : Nat → Prop) (d : Nat)  (hD : 2 ≤ d)  {σ : hc_St} {r : Int32} (h : fm_X21_isType   σ = some r) (am : Nat → Nat → Nat) : hc_M l hc_V0 yX21_isType (ws_ yX21_isType cX21_isType 1 (some .boolean)) d E A [.ref (E.2.1 23)] am [] σ (.inl (some (.int r))) σ := by
  have hd1 : 1 ≤ d := by omega
  refine hc_enter2 (own := RX21) [(0, .ref (E.2.1 23))] pl_X21 rfl hc_V0_st hc_G0_nd rfl (Nat.le_of_ble_eq_true rfl) (fun X hC hem => ?_)
  unfold fm_X21_isType at h
  refine hr_aload_n hC dX21_isType_0 rfl ?_
  refine hr_iconst (v := 0) hC dX21_isType_1 rfl ?_
  obtain ⟨r1, e2, h⟩ := hx_bind h
  refine hs_callV0 hC 23 [_] _ dX21_isType_2 q3186 q3188 qs186 q335 q3189 np_X21 rfl OB_23 pd_X21_isKey (Nat.le_of_ble_eq_true rfl) hd1 (okX21_isKey l E A (d - 1)  (by omega)  e2 am) rfl ?_
  obtain ⟨r7, e8, h⟩ := hx_bind h
  have J9 : hc_At hc_V0 E 1 X 21 [] [.int r7] σ am [] := by
    obtain ⟨c17, h⟩ := hk_ok h
    obtain rfl := Option.some.inj h
    exact hr_zret hC (hb01_n c17) dX21_isType_21
  clear h
  have h := e8
  refine hr_if_ne (x := _) hC 16 dX21_isType_5 (by decide) (fun c6 => ?_) (fun c6 => ?_)
  · rw [if_neg c6] at h
    refine hr_iconst (v := 1) hC dX21_isType_16 rfl ?_
    refine hr_goto hC 21 dX21_isType_17 (by decide) ?_
    obtain rfl := Option.some.inj h
    exact hr_sub _ rfl (J9)
  · rw [if_pos c6] at h
    refine hr_aload_n hC dX21_isType_8 rfl ?_
    refine hr_iconst (v := 1) hC dX21_isType_9 rfl ?_
    obtain ⟨r11, e12, h⟩ := hx_bind h
    refine hs_callV0 hC 23 [_] _ dX21_isType_10 q3186 q3188 qs186 q335 q3189 np_X21 rfl OB_23 pd_X21_isKey (Nat.le_of_ble_eq_true rfl) hd1 (okX21_isKey l E A (d - 1)  (by omega)  e12 am) rfl ?_
    refine hr_if_eq (x := _) hC 20 dX21_isType_13 (by decide) (fun c16 => ?_) (fun c16 => ?_)
    · rw [if_pos c16] at h
      refine hr_iconst (v := 0) hC dX21_isType_20 rfl ?_
      obtain rfl := Option.some.inj h
      exact hr_sub _ rfl (J9)
    · rw [if_neg c16] at h
      refine hr_iconst (v := 1) hC dX21_isType_16 rfl ?_
      refine hr_goto hC 21 dX21_isType_17 (by decide) ?_
      obtain rfl := Option.some.inj h
      exact hr_sub _ rfl (J9)
/-- HomeCompilerModel.parameter()I -/
def fm_X21_parameter   (σ : hc_St) : Option (Nat × Int32 × hc_St) := Option.bind (fm_X21_isType  σ) fun r1 => Option.bind (fm_X21_need r1 σ) fun r5 => ht r5 <| hk (inb ((gI r5.2.2 23 15)) (gL r5.2.2 23 14)) <| hl (pI r5.2.2 23 15 ((((gI r5.2.2 23 15)) + 1))) fun σ11 => Option.bind (fm_X21_name  σ11) fun r12 => ht r12 <| Option.bind (fm_X21_make 42 r12.2.1 r12.2.2) fun r17 => hk (inb r17.1 (gL r17.2 23 26)) <| hl (pC r17.2 23 26 r17.1 ((gC r5.2.2 23 14 ((gI r5.2.2 23 15))))) fun σ22 => Option.bind (fm_X21_is 78 σ22) fun r23 => Option.bind (α := Nat × hc_St × Int32) (if r23 = 0 then (some (0, σ22, (0 : Int32))) else (Option.bind (fm_X21_opens  σ22) fun r33 => hv r33 (0) <| Option.bind (fm_X21_closes 79 r33.2.2) fun r38 => hv r38 (0) <| hk (inb r17.1 (gL r38.2.2 23 21)) <| hl (pC r38.2.2 23 21 r17.1 1) fun σ44 => some (0, σ44, (0 : Int32)))) fun r29 => hu r29 <| some (0, r17.1, r29.2.1)
set_option maxRecDepth 20000 in
set_option maxHeartbeats 4000000 in
theorem okX21_parameter (l : Launch) (E : hc_E) (A : Nat → Prop) (d : Nat)  (hD : 16 ≤ d)  {σ : hc_St} {r : (Nat × Int32 × hc_St)} (h : fm_X21_parameter   σ = some r) (am : Nat → Nat → Nat) : hc_M l hc_V0 yX21_parameter (ws_ yX21_parameter cX21_parameter 3 (some .int)) d E A [.ref (E.2.1 23)] am [] σ (hc_ot (fun v => some (.int v)) r) r.2.2 := by
  have hd1 : 1 ≤ d := by omega
  have hd8 : 9 ≤ d := by omega
  have hd12 : 12 ≤ d := by omega
  refine hc_enter2 (own := RX21) [(0, .ref (E.2.1 23))] pl_X21 rfl hc_V0_st hc_G0_nd rfl (Nat.le_of_ble_eq_true rfl) (fun X hC hem => ?_)
  have HX := fun z => hc_CX hC z
  unfold fm_X21_parameter at h
  refine hr_aload_n hC dX21_parameter_0 rfl ?_
  refine hr_aload_n hC dX21_parameter_1 rfl ?_
  obtain ⟨r1, e2, h⟩ := hx_bind h
  refine hs_callV0 hC 23 [] _ dX21_parameter_2 q3310 q3312 qs214 q335 q3313 np_X21 rfl OB_23 pd_X21_isType (Nat.le_of_ble_eq_true rfl) hd1 (okX21_isType l E A (d - 1)  (by omega)  e2 am) rfl ?_
  obtain ⟨r5, e6, h⟩ := hx_bind h
  by_cases z9 : r5.1 = 0
  · rw [ht_0 z9] at h
    refine hs_callV0 hC 23 [_] _ dX21_parameter_5 q3218 q3220 qs192 q335 q3221 np_X21 rfl OB_23 pd_X21_need (Nat.le_of_ble_eq_true rfl) hd1 (hc_M0 (r := r5) (okX21_need l E A (d - 1)  (by omega)  e6 am) z9) rfl ?_
    refine hr_aload_n hC dX21_parameter_8 rfl ?_
    refine hr_gA hC F23_14 rfl dX21_parameter_9 q2856 ?_
    refine hr_aload_n hC dX21_parameter_12 rfl ?_
    refine hr_gI hC F23_15 dX21_parameter_13 q2857 ?_
    obtain ⟨c10, h⟩ := hk_ok h
    refine hs_iald hC A23_14 c10 dX21_parameter_16 ?_
    refine hr_istore_n hC dX21_parameter_17 (by decide) ?_
    refine hr_aload_n hC dX21_parameter_18 rfl ?_
    refine hr_dup hC dX21_parameter_19 rfl ?_
    refine hr_gI hC F23_15 dX21_parameter_20 q2857 ?_
    refine hr_iconst (v := 1) hC dX21_parameter_23 rfl ?_
    refine hr_iadd hC dX21_parameter_24 ?_
    obtain ⟨σ11, hσ11, h⟩ := hl_ok h
    refine hr_pI hC F23_15 PX21_15 dX21_parameter_25 q2857 ?_
    rw [← hσ11]
    refine hr_aload_n hC dX21_parameter_28 rfl ?_
    refine hr_bipush (v := 42) hC dX21_parameter_29 rfl ?_
    refine hr_aload_n hC dX21_parameter_31 rfl ?_
    obtain ⟨r12, e13, h⟩ := hx_bind h
    by_cases z16 : r12.1 = 0
    · rw [ht_0 z16] at h
      refine hs_callV0 hC 23 [] _ dX21_parameter_32 q3227 q3229 qs194 q335 q3230 np_X21 rfl OB_23 pd_X21_name (Nat.le_of_ble_eq_true rfl) hd1 (hc_M0 (r := r12) (okX21_name l E A (d - 1)  (by omega)  e13 am) z16) rfl ?_
      obtain ⟨r17, e18, h⟩ := hx_bind h
      refine hs_callV0 hC 23 [_, _] _ dX21_parameter_35 q3194 q3196 qs188 q335 q3197 np_X21 rfl OB_23 pd_X21_make (Nat.le_of_ble_eq_true rfl) hd1 (okX21_make l E A (d - 1)  (by omega)  e18 am) rfl ?_
      refine hr_istore_n hC dX21_parameter_38 (by decide) ?_
      refine hr_aload_n hC dX21_parameter_39 rfl ?_
      refine hr_gA hC F23_26 rfl dX21_parameter_40 q2868 ?_
      refine hr_iload_n hC dX21_parameter_43 rfl ?_
      refine hr_iload_n hC dX21_parameter_44 rfl ?_
      obtain ⟨c21, h⟩ := hk_ok h
      obtain ⟨σ22, hσ22, h⟩ := hl_ok h
      refine hs_iast hC A23_26 c21 dX21_parameter_45 ?_
      rw [← hσ22]
      refine hr_aload_n hC dX21_parameter_46 rfl ?_
      refine hr_ldcs (v := 78) 78 hC dX21_parameter_47 (List.mem_of_getElem? (i := 78) rfl) (by decide) rfl ?_
      obtain ⟨r23, e24, h⟩ := hx_bind h
      refine hs_callV0 hC 23 [_] _ dX21_parameter_49 q3202 q3204 qs190 q335 q3205 np_X21 rfl OB_23 pd_X21_is (Nat.le_of_ble_eq_true rfl) hd1 (okX21_is l E A (d - 1)  (by omega)  e24 am) rfl ?_
      obtain ⟨r29, e30, h⟩ := hx_bind h
      have J31 : r29.1 = 0 → hc_At hc_V0 E 3 X 72 [(2, .int r17.1)] [] r29.2.1 am [] := by
        intro z32
        rw [hu_0 z32] at h
        refine hr_iload_n hC dX21_parameter_72 rfl ?_
        obtain rfl := Option.some.inj h
        exact hr_iret hC dX21_parameter_73
      have HX : r29.1 ≠ 0 → hc_C hc_V0 E cX21_parameter 3 RX21 (some .int) d (.inr r29.1) r29.2.1 (l, A, am, []) X := by
        intro z32
        rw [hu_1 z32] at h
        obtain rfl := Option.some.inj h
        exact HX z32
      clear h
      have h := e30
      refine hr_if_eq (x := _) hC 72 dX21_parameter_52 (by decide) (fun c28 => ?_) (fun c28 => ?_)
      · rw [if_pos c28] at h
        obtain rfl := Option.some.inj h
        exact hr_sub _ rfl (J31 rfl)
      · rw [if_neg c28] at h
        refine hr_aload_n hC dX21_parameter_55 rfl ?_
        obtain ⟨r33, e34, h⟩ := hx_bind h
        by_cases z37 : r33.1 = 0
        · rw [hv_0 z37] at h
          refine hs_callV0 hC 23 [] _ dX21_parameter_56 q3223 q3225 qs193 q335 q3226 np_X21 rfl OB_23 pd_X21_opens (Nat.le_of_ble_eq_true rfl) hd1 (hc_M0 (r := r33) (okX21_opens l E A (d - 1)  (by omega)  e34 am) z37) rfl ?_
          refine hr_aload_n hC dX21_parameter_59 rfl ?_
          refine hr_ldcs (v := 79) 79 hC dX21_parameter_60 (List.mem_of_getElem? (i := 79) rfl) (by decide) rfl ?_
          obtain ⟨r38, e39, h⟩ := hx_bind h
          by_cases z42 : r38.1 = 0
          · rw [hv_0 z42] at h
            refine hs_callV0 hC 23 [_] _ dX21_parameter_62 q3278 q3280 qs206 q335 q3281 np_X21 rfl OB_23 pd_X21_closes (Nat.le_of_ble_eq_true rfl) hd1 (hc_M0 (r := r38) (okX21_closes l E A (d - 1)  (by omega)  e39 am) z42) rfl ?_
            refine hr_aload_n hC dX21_parameter_65 rfl ?_
            refine hr_gA hC F23_21 rfl dX21_parameter_66 q2863 ?_
            refine hr_iload_n hC dX21_parameter_69 rfl ?_
            refine hr_iconst (v := 1) hC dX21_parameter_70 rfl ?_
            obtain ⟨c43, h⟩ := hk_ok h
            obtain ⟨σ44, hσ44, h⟩ := hl_ok h
            refine hs_iast hC A23_21 c43 dX21_parameter_71 ?_
            rw [← hσ44]
            obtain rfl := Option.some.inj h
            exact hr_sub _ rfl (J31 rfl)
          · rw [hv_1 z42] at h
            obtain rfl := Option.some.inj h
            exact hs_callVx (HX z42) hem 23 [_] _ dX21_parameter_62 q3278 q3280 qs206 q335 q3281 np_X21 rfl OB_23 pd_X21_closes (Nat.le_of_ble_eq_true rfl) hd1 (hc_M1 (r := r38) (okX21_closes l E A (d - 1)  (by omega)  e39 am) z42) (hc_rb rfl) rfl
        · rw [hv_1 z37] at h
          obtain rfl := Option.some.inj h
          exact hs_callVx (HX z37) hem 23 [] _ dX21_parameter_56 q3223 q3225 qs193 q335 q3226 np_X21 rfl OB_23 pd_X21_opens (Nat.le_of_ble_eq_true rfl) hd1 (hc_M1 (r := r33) (okX21_opens l E A (d - 1)  (by omega)  e34 am) z37) (hc_rb rfl) rfl
    · rw [ht_1 z16] at h
      obtain rfl := Option.some.inj h
      exact hs_callVx (HX z16) hem 23 [] _ dX21_parameter_32 q3227 q3229 qs194 q335 q3230 np_X21 rfl OB_23 pd_X21_name (Nat.le_of_ble_eq_true rfl) hd1 (hc_M1 (r := r12) (okX21_name l E A (d - 1)  (by omega)  e13 am) z16) (hc_rb rfl) rfl
  · rw [ht_1 z9] at h
    obtain rfl := Option.some.inj h
    exact hs_callVx (HX z9) hem 23 [_] _ dX21_parameter_5 q3218 q3220 qs192 q335 q3221 np_X21 rfl OB_23 pd_X21_need (Nat.le_of_ble_eq_true rfl) hd1 (hc_M1 (r := r5) (okX21_need l E A (d - 1)  (by omega)  e6 am) z9) (hc_rb rfl) rfl
def lp_X21_arrayValue_66 (n : Nat) (k0 : Nat) : Nat → Int32 → hc_St → Option (Nat × hc_St × Int32)
  | 0, _, _ => none
  | m + 1, y2, σ => Option.bind (fm_X21_takes 80 σ) fun r20 => if r20.1 = 0 then (some (0, r20.2, 0)) else (Option.bind (fm_X21_constant n k0 r20.2) fun r26 => hv r26 (0) <| hk (inb y2 (gL r26.2.2 23 25)) <| hl (pC r26.2.2 23 25 y2 r26.2.1) fun σ32 => lp_X21_arrayValue_66 n k0 m r26.2.1 σ32)
/-- HomeCompilerModel.arrayValue(I)V -/
def fm_X21_arrayValue (n : Nat) (k0 : Nat) (x1 : Int32) (σ : hc_St) : Option (Nat × Int32 × hc_St) := hk (inb x1 (gL σ 23 23)) <| hl (pC σ 23 23 x1 ((gI σ 23 15))) fun σ2 => hk (inb ((gI σ2 23 15)) (gL σ2 23 13)) <| if (gC σ2 23 13 ((gI σ2 23 15))).toInt8.toInt32 = 4 then (hk (inb x1 (gL σ2 23 26)) <| hl (pC σ2 23 26 x1 3) fun σ44 => hl (pI σ44 23 15 ((((gI σ44 23 15)) + 1))) fun σ45 => some (0, 0, σ45)) else (hk (inb x1 (gL σ2 23 26)) <| hl (pC σ2 23 26 x1 2) fun σ7 => Option.bind (fm_X21_opensMark 76 σ7) fun r8 => ht r8 <| Option.bind (fm_X21_constant n k0 r8.2.2) fun r13 => ht r13 <| hk (inb x1 (gL r13.2.2 23 22)) <| hl (pC r13.2.2 23 22 x1 r13.2.1) fun σ19 => Option.bind (lp_X21_arrayValue_66 n k0 n r13.2.1 σ19) fun r33 => hu r33 <| Option.bind (fm_X21_closes 77 r33.2.1) fun r38 => ht r38 <| some (0, 0, r38.2.2))
set_option maxRecDepth 20000 in
set_option maxHeartbeats 4000000 in
theorem ll_X21_arrayValue_66 {l : Launch} {E : hc_E} {A : Nat → Prop} {am : Nat → Nat → Nat} {d : Nat} {X : hc_X} (n : Nat) (k0 : Nat) (hD : 1 * k0 + 18 ≤ d) (hem : X.2.2.2.2.2.2.2.2.2.1.exceptionTable.isEmpty = true) {oc : hc_Oc} {σe : hc_St} (hC : hc_C hc_V0 E cX21_arrayValue 4 RX21 none d oc σe (l, A, am, []) X) : ∀ (m : Nat) (σ : hc_St) (y2 : Int32) (rl : Nat × hc_St × Int32) (am1 : Nat → Nat → Nat), lp_X21_arrayValue_66 n k0 m y2 σ = some rl → (rl.1 = 0 → hc_At hc_V0 E 4 X 92 [(0, .ref (E.2.1 23))] [] rl.2.1 am1 []) → (rl.1 ≠ 0 → hc_C hc_V0 E cX21_arrayValue 4 RX21 none d (.inr rl.1) rl.2.1 (l, A, am, []) X) → hc_At hc_V0 E 4 X 66 [(0, .ref (E.2.1 23)), (2, .int y2)] [] σ am1 [] := by
  have hd1 : 1 ≤ d := by omega
  have hd8 : 9 ≤ d := by omega
  have hd12 : 12 ≤ d := by omega
  intro m
  induction m with
  | zero =>
    intro σ y2 rl am1 h
    cases h
  | succ m ih =>
    intro σ y2 rl am1 h JX HX
    rw [lp_X21_arrayValue_66] at h
    refine hr_aload_n hC dX21_arrayValue_66 rfl ?_
    refine hr_ldcs (v := 80) 80 hC dX21_arrayValue_67 (List.mem_of_getElem? (i := 80) rfl) (by decide) rfl ?_
    obtain ⟨r20, e21, h⟩ := hx_bind h
    refine hs_callV0 hC 23 [_] _ dX21_arrayValue_69 q3231 q3233 qs195 q335 q3234 np_X21 rfl OB_23 pd_X21_takes (Nat.le_of_ble_eq_true rfl) hd1 (okX21_takes l E A (d - 1)  (by omega)  e21 am1) rfl ?_
    refine hr_if_eq (x := _) hC 92 dX21_arrayValue_72 (by decide) (fun c25 => ?_) (fun c25 => ?_)
    · rw [if_pos c25] at h
      obtain rfl := Option.some.inj h
      exact hr_sub _ rfl (JX rfl)
    · rw [if_neg c25] at h
      refine hr_aload_n hC dX21_arrayValue_75 rfl ?_
      obtain ⟨r26, e27, h⟩ := hx_bind h
      by_cases z30 : r26.1 = 0
      · rw [hv_0 z30] at h
        refine hs_callV0 hC 23 [] _ dX21_arrayValue_76 q3235 q3237 qs196 q335 q3238 np_X21 rfl OB_23 pd_X21_constant (Nat.le_of_ble_eq_true rfl) hd1 (hc_M0 (r := r26) (okX21_constant l E A (d - 1) n k0 (by omega)  e27 am1) z30) rfl ?_
        refine hr_istore_n hC dX21_arrayValue_79 (by decide) ?_
        refine hr_aload_n hC dX21_arrayValue_80 rfl ?_
        refine hr_gA hC F23_25 rfl dX21_arrayValue_81 q2867 ?_
        refine hr_iload_n hC dX21_arrayValue_84 rfl ?_
        refine hr_iload_n hC dX21_arrayValue_85 rfl ?_
        obtain ⟨c31, h⟩ := hk_ok h
        obtain ⟨σ32, hσ32, h⟩ := hl_ok h
        refine hs_iast hC A23_25 c31 dX21_arrayValue_86 ?_
        rw [← hσ32]
        refine hr_iload_n hC dX21_arrayValue_87 rfl ?_
        refine hr_istore_n hC dX21_arrayValue_88 (by decide) ?_
        refine hr_goto hC 66 dX21_arrayValue_89 (by decide) ?_
        exact hr_sub _ rfl (ih _ _ _ am1 h JX HX)
      · rw [hv_1 z30] at h
        obtain rfl := Option.some.inj h
        exact hs_callVx (HX z30) hem 23 [] _ dX21_arrayValue_76 q3235 q3237 qs196 q335 q3238 np_X21 rfl OB_23 pd_X21_constant (Nat.le_of_ble_eq_true rfl) hd1 (hc_M1 (r := r26) (okX21_constant l E A (d - 1) n k0 (by omega)  e27 am1) z30) (hc_rb rfl) rfl
set_option maxRecDepth 20000 in
set_option maxHeartbeats 4000000 in
theorem okX21_arrayValue (l : Launch) (E : hc_E) (A : Nat → Prop) (d : Nat) (n : Nat) (k0 : Nat) (hD : 1 * k0 + 18 ≤ d) {x1 : Int32} {σ : hc_St} {r : (Nat × Int32 × hc_St)} (h : fm_X21_arrayValue n k0 x1 σ = some r) (am : Nat → Nat → Nat) : hc_M l hc_V0 yX21_arrayValue (ws_ yX21_arrayValue cX21_arrayValue 4 none) d E A [.ref (E.2.1 23), .int x1] am [] σ (hc_ot (fun v => none) r) r.2.2 := by
  have hd1 : 1 ≤ d := by omega
  have hd8 : 9 ≤ d := by omega
  have hd12 : 12 ≤ d := by omega
  refine hc_enter2 (own := RX21) [(0, .ref (E.2.1 23)), (1, .int x1)] pl_X21 rfl hc_V0_st hc_G0_nd rfl (Nat.le_of_ble_eq_true rfl) (fun X hC hem => ?_)
  have HX := fun z => hc_CX hC z
  unfold fm_X21_arrayValue at h
  refine hr_aload_n hC dX21_arrayValue_0 rfl ?_
  refine hr_gA hC F23_23 rfl dX21_arrayValue_1 q2865 ?_
  refine hr_iload_n hC dX21_arrayValue_4 rfl ?_
  refine hr_aload_n hC dX21_arrayValue_5 rfl ?_
  refine hr_gI hC F23_15 dX21_arrayValue_6 q2857 ?_
  obtain ⟨c1, h⟩ := hk_ok h
  obtain ⟨σ2, hσ2, h⟩ := hl_ok h
  refine hs_iast hC A23_23 c1 dX21_arrayValue_9 ?_
  rw [← hσ2]
  refine hr_aload_n hC dX21_arrayValue_10 rfl ?_
  refine hr_gA hC F23_13 rfl dX21_arrayValue_11 q2855 ?_
  refine hr_aload_n hC dX21_arrayValue_14 rfl ?_
  refine hr_gI hC F23_15 dX21_arrayValue_15 q2857 ?_
  obtain ⟨c3, h⟩ := hk_ok h
  refine hs_bald hC A23_13 c3 dX21_arrayValue_18 ?_
  refine hr_iconst (v := 4) hC dX21_arrayValue_19 rfl ?_
  refine hr_icmp_ne (x := _) hC 41 dX21_arrayValue_20 (by decide) (fun c5 => ?_) (fun c5 => ?_)
  · rw [if_neg c5] at h
    refine hr_aload_n hC dX21_arrayValue_41 rfl ?_
    refine hr_gA hC F23_26 rfl dX21_arrayValue_42 q2868 ?_
    refine hr_iload_n hC dX21_arrayValue_45 rfl ?_
    refine hr_iconst (v := 2) hC dX21_arrayValue_46 rfl ?_
    obtain ⟨c6, h⟩ := hk_ok h
    obtain ⟨σ7, hσ7, h⟩ := hl_ok h
    refine hs_iast hC A23_26 c6 dX21_arrayValue_47 ?_
    rw [← hσ7]
    refine hr_aload_n hC dX21_arrayValue_48 rfl ?_
    refine hr_ldcs (v := 76) 76 hC dX21_arrayValue_49 (List.mem_of_getElem? (i := 76) rfl) (by decide) rfl ?_
    obtain ⟨r8, e9, h⟩ := hx_bind h
    by_cases z12 : r8.1 = 0
    · rw [ht_0 z12] at h
      refine hs_callV0 hC 23 [_] _ dX21_arrayValue_51 q3198 q3200 qs189 q335 q3201 np_X21 rfl OB_23 pd_X21_opensMark (Nat.le_of_ble_eq_true rfl) hd1 (hc_M0 (r := r8) (okX21_opensMark l E A (d - 1)  (by omega)  e9 am) z12) rfl ?_
      refine hr_aload_n hC dX21_arrayValue_54 rfl ?_
      obtain ⟨r13, e14, h⟩ := hx_bind h
      by_cases z17 : r13.1 = 0
      · rw [ht_0 z17] at h
        refine hs_callV0 hC 23 [] _ dX21_arrayValue_55 q3235 q3237 qs196 q335 q3238 np_X21 rfl OB_23 pd_X21_constant (Nat.le_of_ble_eq_true rfl) hd1 (hc_M0 (r := r13) (okX21_constant l E A (d - 1) n k0 (by omega)  e14 am) z17) rfl ?_
        refine hr_istore_n hC dX21_arrayValue_58 (by decide) ?_
        refine hr_aload_n hC dX21_arrayValue_59 rfl ?_
        refine hr_gA hC F23_22 rfl dX21_arrayValue_60 q2864 ?_
        refine hr_iload_n hC dX21_arrayValue_63 rfl ?_
        refine hr_iload_n hC dX21_arrayValue_64 rfl ?_
        obtain ⟨c18, h⟩ := hk_ok h
        obtain ⟨σ19, hσ19, h⟩ := hl_ok h
        refine hs_iast hC A23_22 c18 dX21_arrayValue_65 ?_
        rw [← hσ19]
        obtain ⟨r33, e34, h⟩ := hx_bind h
        refine hr_sub _ rfl (ll_X21_arrayValue_66 n k0 hD hem hC n _ _ _ am e34 (fun z36 => ?_) (fun z36 => ?_))
        · rw [hu_0 z36] at h
          refine hr_aload_n hC dX21_arrayValue_92 rfl ?_
          refine hr_ldcs (v := 77) 77 hC dX21_arrayValue_93 (List.mem_of_getElem? (i := 77) rfl) (by decide) rfl ?_
          obtain ⟨r38, e39, h⟩ := hx_bind h
          by_cases z42 : r38.1 = 0
          · rw [ht_0 z42] at h
            refine hs_callV0 hC 23 [_] _ dX21_arrayValue_95 q3278 q3280 qs206 q335 q3281 np_X21 rfl OB_23 pd_X21_closes (Nat.le_of_ble_eq_true rfl) hd1 (hc_M0 (r := r38) (okX21_closes l E A (d - 1)  (by omega)  e39 am) z42) rfl ?_
            obtain rfl := Option.some.inj h
            exact hr_vret hC dX21_arrayValue_98
          · rw [ht_1 z42] at h
            obtain rfl := Option.some.inj h
            exact hs_callVx (HX z42) hem 23 [_] _ dX21_arrayValue_95 q3278 q3280 qs206 q335 q3281 np_X21 rfl OB_23 pd_X21_closes (Nat.le_of_ble_eq_true rfl) hd1 (hc_M1 (r := r38) (okX21_closes l E A (d - 1)  (by omega)  e39 am) z42) (hc_rb rfl) rfl
        · rw [hu_1 z36] at h
          obtain rfl := Option.some.inj h
          exact HX z36
      · rw [ht_1 z17] at h
        obtain rfl := Option.some.inj h
        exact hs_callVx (HX z17) hem 23 [] _ dX21_arrayValue_55 q3235 q3237 qs196 q335 q3238 np_X21 rfl OB_23 pd_X21_constant (Nat.le_of_ble_eq_true rfl) hd1 (hc_M1 (r := r13) (okX21_constant l E A (d - 1) n k0 (by omega)  e14 am) z17) (hc_rb rfl) rfl
    · rw [ht_1 z12] at h
      obtain rfl := Option.some.inj h
      exact hs_callVx (HX z12) hem 23 [_] _ dX21_arrayValue_51 q3198 q3200 qs189 q335 q3201 np_X21 rfl OB_23 pd_X21_opensMark (Nat.le_of_ble_eq_true rfl) hd1 (hc_M1 (r := r8) (okX21_opensMark l E A (d - 1)  (by omega)  e9 am) z12) (hc_rb rfl) rfl
  · rw [if_pos c5] at h
    refine hr_aload_n hC dX21_arrayValue_23 rfl ?_
    refine hr_gA hC F23_26 rfl dX21_arrayValue_24 q2868 ?_
    refine hr_iload_n hC dX21_arrayValue_27 rfl ?_
    refine hr_iconst (v := 3) hC dX21_arrayValue_28 rfl ?_
    obtain ⟨c43, h⟩ := hk_ok h
    obtain ⟨σ44, hσ44, h⟩ := hl_ok h
    refine hs_iast hC A23_26 c43 dX21_arrayValue_29 ?_
    rw [← hσ44]
    refine hr_aload_n hC dX21_arrayValue_30 rfl ?_
    refine hr_dup hC dX21_arrayValue_31 rfl ?_
    refine hr_gI hC F23_15 dX21_arrayValue_32 q2857 ?_
    refine hr_iconst (v := 1) hC dX21_arrayValue_35 rfl ?_
    refine hr_iadd hC dX21_arrayValue_36 ?_
    obtain ⟨σ45, hσ45, h⟩ := hl_ok h
    refine hr_pI hC F23_15 PX21_15 dX21_arrayValue_37 q2857 ?_
    rw [← hσ45]
    obtain rfl := Option.some.inj h
    exact hr_vret hC dX21_arrayValue_40
