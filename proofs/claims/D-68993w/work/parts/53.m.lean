set_option maxRecDepth 20000
def lp_X21_checkFunction_80 (n : Nat) (k0 : Nat) : Nat → Int32 → Int32 → Int32 → Int32 → Int32 → hc_St → Option (hc_St)
  | 0, _, _, _, _, _, _ => none
  | m + 1, y1, y2, y4, y5, y6, σ => if y6 < 0 then (some (σ)) else (hk (inb y6 (gL σ 23 19)) <| Option.bind (fm_X21_checkNew n ((gC σ 23 19 y6)) σ) fun r35 => hk (inb y6 (gL r35 23 21)) <| hl (α := Int32) ((if (gC r35 23 21 y6) < 0 then 0 else 1)) fun v42 => hl (α := Int32) ((if v42 = 0 then 1 else 2)) fun v45 => hl (pI r35 23 47 ((((gI r35 23 47)) + v45))) fun σ46 => hk (inb y6 (gL σ46 23 26)) <| hl (α := Int32) ((if (gC σ46 23 26 y6) = 1 then 1 else 0)) fun v50 => hl (α := Int32) ((if v42 = 0 then v50 else (4 + v50))) fun v53 => Option.bind (fm_X21_lay v53 1 σ46) fun r54 => hk (inb y6 (gL r54.2 23 22)) <| hl (pC r54.2 23 22 y6 r54.1) fun σ59 => hk (inb y6 (gL σ59 23 19)) <| Option.bind (α := Int32) (if v42 = 0 then (some (1)) else (hk (inb y6 (gL σ59 23 26)) <| if (gC σ59 23 26 y6) = 1 then (some (3)) else (some (2)))) fun r63 => hk (inb y6 (gL σ59 23 22)) <| Option.bind (fm_X21_know ((gC σ59 23 19 y6)) r63 0 ((gC σ59 23 22 y6)) σ59) fun r71 => hk (inb y6 (gL r71 23 25)) <| lp_X21_checkFunction_80 n k0 m y1 y2 y4 y5 ((gC r71 23 25 y6)) r71)
/-- HomeCompilerModel.checkFunction(I)V -/
def fm_X21_checkFunction (n : Nat) (k0 : Nat) (x1 : Int32) (σ : hc_St) : Option hc_St := hk (inb x1 (gL σ 23 44)) <| hk (inb ((gC σ 23 44 x1)) (gL σ 23 19)) <| Option.bind (fm_X21_findOwn n ((gC σ 23 19 ((gC σ 23 44 x1)))) σ) fun r3 => Option.bind (α := hc_St) (if 0 ≤ r3 then (Option.bind (fm_X21_bad 1 ((gC σ 23 19 ((gC σ 23 44 x1)))) σ) fun r13 => some (r13)) else (Option.bind (fm_X21_findFunction n ((gC σ 23 19 ((gC σ 23 44 x1)))) σ) fun r17 => if r17 = x1 then (some (σ)) else (Option.bind (fm_X21_bad 1 ((gC σ 23 19 ((gC σ 23 44 x1)))) σ) fun r23 => some (r23)))) fun r9 => hl (pI r9 23 42 ((gI r9 23 38))) fun σ27 => hl (pI σ27 23 48 ((gC σ 23 44 x1))) fun σ28 => hl (pI σ28 23 47 4) fun σ29 => hl (pI σ29 23 59 0) fun σ30 => hk (inb ((gC σ 23 44 x1)) (gL σ30 23 21)) <| Option.bind (lp_X21_checkFunction_80 n k0 n x1 ((gC σ 23 44 x1)) ((gI r9 23 38)) ((gI r9 23 42)) ((gC σ30 23 21 ((gC σ 23 44 x1)))) σ30) fun r88 => hk (inb ((gC σ 23 44 x1)) (gL r88 23 22)) <| hk (inb ((gC r88 23 22 ((gC σ 23 44 x1)))) (gL r88 23 21)) <| Option.bind (fm_X21_statements n k0 ((gC r88 23 21 ((gC r88 23 22 ((gC σ 23 44 x1)))))) r88) fun r95 => hl (pI r95.2 23 64 0) fun σ99 => Option.bind (α := hc_St) (if (gI σ99 23 34) = 0 then (hk (inb ((gC σ 23 44 x1)) (gL σ99 23 22)) <| hk (inb ((gC σ99 23 22 ((gC σ 23 44 x1)))) (gL σ99 23 21)) <| Option.bind (fm_X21_measure n k0 ((gC σ99 23 21 ((gC σ99 23 22 ((gC σ 23 44 x1)))))) σ99) fun r108 => some (r108.2)) else (some (σ99))) fun r102 => hk (inb x1 (gL r102 23 45)) <| hl (pC r102 23 45 x1 ((((gI r102 23 47)) + ((gI r102 23 64))))) fun σ113 => hk (inb x1 (gL σ113 23 61)) <| hl (pC σ113 23 61 x1 ((gI σ113 23 59))) fun σ115 => hl (pI σ115 23 48 ((-1))) fun σ116 => Option.bind (fm_X21_leave ((gI r9 23 38)) ((gI r9 23 42)) σ116) fun r117 => some r117
set_option maxRecDepth 20000 in
set_option maxHeartbeats 4000000 in
theorem ll_X21_checkFunction_80 {l : Launch} {E : hc_E} {A : Nat → Prop} {am : Nat → Nat → Nat} {d : Nat} {X : hc_X} (n : Nat) (k0 : Nat) (hD : 3 * k0 + 18 ≤ d) (hem : X.2.2.2.2.2.2.2.2.2.1.exceptionTable.isEmpty = true) {oc : hc_Oc} {σe : hc_St} (hC : hc_C hc_V0 E cX21_checkFunction 9 RX21 none d oc σe (l, A, am, []) X) : ∀ (m : Nat) (σ : hc_St) (y1 : Int32) (y2 : Int32) (y4 : Int32) (y5 : Int32) (y6 : Int32) (rl : hc_St) (am1 : Nat → Nat → Nat), lp_X21_checkFunction_80 n k0 m y1 y2 y4 y5 y6 σ = some rl → (hc_At hc_V0 E 9 X 232 [(0, .ref (E.2.1 23)), (1, .int y1), (2, .int y2), (4, .int y4), (5, .int y5)] [] rl am1 []) → hc_At hc_V0 E 9 X 80 [(0, .ref (E.2.1 23)), (1, .int y1), (2, .int y2), (4, .int y4), (5, .int y5), (6, .int y6)] [] σ am1 [] := by
  have hd1 : 1 ≤ d := by omega
  have hd8 : 9 ≤ d := by omega
  have hd12 : 12 ≤ d := by omega
  intro m
  induction m with
  | zero =>
    intro σ y1 y2 y4 y5 y6 rl am1 h
    cases h
  | succ m ih =>
    intro σ y1 y2 y4 y5 y6 rl am1 h JX
    rw [lp_X21_checkFunction_80] at h
    refine hr_iload hC dX21_checkFunction_80 rfl ?_
    refine hr_if_lt (x := _) hC 232 dX21_checkFunction_82 (by decide) (fun c33 => ?_) (fun c33 => ?_)
    · rw [if_pos c33] at h
      obtain rfl := Option.some.inj h
      exact hr_sub _ rfl (JX)
    · rw [if_neg c33] at h
      refine hr_aload_n hC dX21_checkFunction_85 rfl ?_
      refine hr_aload_n hC dX21_checkFunction_86 rfl ?_
      refine hr_gA hC F23_19 rfl dX21_checkFunction_87 q2861 ?_
      refine hr_iload hC dX21_checkFunction_90 rfl ?_
      obtain ⟨c34, h⟩ := hk_ok h
      refine hs_iald hC A23_19 c34 dX21_checkFunction_92 ?_
      obtain ⟨r35, e36, h⟩ := hx_bind h
      refine hs_callV0 hC 23 [_] _ dX21_checkFunction_93 q3402 q3404 qs237 q335 q3405 np_X21 rfl OB_23 pd_X21_checkNew (Nat.le_of_ble_eq_true rfl) hd1 (okX21_checkNew l E A (d - 1) n (by omega)  e36 am1) rfl ?_
      refine hr_aload_n hC dX21_checkFunction_96 rfl ?_
      refine hr_gA hC F23_21 rfl dX21_checkFunction_97 q2863 ?_
      refine hr_iload hC dX21_checkFunction_100 rfl ?_
      obtain ⟨c39, h⟩ := hk_ok h
      refine hs_iald hC A23_21 c39 dX21_checkFunction_102 ?_
      obtain ⟨v42, hv42, h⟩ := hl_ok h
      have J85 : ∀ w86 : Int32, (if (gC r35 23 21 y6) < 0 then 0 else 1) = w86 → hc_At hc_V0 E 9 X 111 [(0, .ref (E.2.1 23)), (1, .int y1), (2, .int y2), (4, .int y4), (5, .int y5), (6, .int y6)] [.int w86] r35 am1 [] := by
        intro w86 hw86
        obtain rfl := hv42.trans hw86
        refine hr_istore hC dX21_checkFunction_111 (by decide) ?_
        refine hr_aload_n hC dX21_checkFunction_113 rfl ?_
        refine hr_aload_n hC dX21_checkFunction_114 rfl ?_
        refine hr_gI hC F23_47 dX21_checkFunction_115 q2888 ?_
        refine hr_iload hC dX21_checkFunction_118 rfl ?_
        obtain ⟨v45, hv45, h⟩ := hl_ok h
        have J82 : ∀ w83 : Int32, (if v42 = 0 then 1 else 2) = w83 → hc_At hc_V0 E 9 X 128 [(0, .ref (E.2.1 23)), (1, .int y1), (2, .int y2), (4, .int y4), (5, .int y5), (6, .int y6), (7, .int v42)] [.int w83, .int (gI r35 23 47), .ref (E.2.1 23)] r35 am1 [] := by
          intro w83 hw83
          obtain rfl := hv45.trans hw83
          refine hr_iadd hC dX21_checkFunction_128 ?_
          obtain ⟨σ46, hσ46, h⟩ := hl_ok h
          refine hr_pI hC F23_47 PX21_47 dX21_checkFunction_129 q2888 ?_
          rw [← hσ46]
          refine hr_aload_n hC dX21_checkFunction_132 rfl ?_
          refine hr_gA hC F23_26 rfl dX21_checkFunction_133 q2868 ?_
          refine hr_iload hC dX21_checkFunction_136 rfl ?_
          obtain ⟨c47, h⟩ := hk_ok h
          refine hs_iald hC A23_26 c47 dX21_checkFunction_138 ?_
          refine hr_iconst (v := 1) hC dX21_checkFunction_139 rfl ?_
          obtain ⟨v50, hv50, h⟩ := hl_ok h
          have J79 : ∀ w80 : Int32, (if (gC σ46 23 26 y6) = 1 then 1 else 0) = w80 → hc_At hc_V0 E 9 X 148 [(0, .ref (E.2.1 23)), (1, .int y1), (2, .int y2), (4, .int y4), (5, .int y5), (6, .int y6), (7, .int v42)] [.int w80] σ46 am1 [] := by
            intro w80 hw80
            obtain rfl := hv50.trans hw80
            refine hr_istore hC dX21_checkFunction_148 (by decide) ?_
            refine hr_aload_n hC dX21_checkFunction_150 rfl ?_
            refine hr_gA hC F23_22 rfl dX21_checkFunction_151 q2864 ?_
            refine hr_iload hC dX21_checkFunction_154 rfl ?_
            refine hr_aload_n hC dX21_checkFunction_156 rfl ?_
            refine hr_iload hC dX21_checkFunction_157 rfl ?_
            obtain ⟨v53, hv53, h⟩ := hl_ok h
            have J76 : ∀ w77 : Int32, (if v42 = 0 then v50 else (4 + v50)) = w77 → hc_At hc_V0 E 9 X 171 [(0, .ref (E.2.1 23)), (1, .int y1), (2, .int y2), (4, .int y4), (5, .int y5), (6, .int y6), (7, .int v42)] [.int w77, .ref (E.2.1 23), .int y6, .ref (am1 23 22)] σ46 am1 [] := by
              intro w77 hw77
              obtain rfl := hv53.trans hw77
              refine hr_iconst (v := 1) hC dX21_checkFunction_171 rfl ?_
              obtain ⟨r54, e55, h⟩ := hx_bind h
              refine hs_callV0 hC 23 [_, _] _ dX21_checkFunction_172 q3414 q3416 qs240 q335 q3417 np_X21 rfl OB_23 pd_X21_lay (Nat.le_of_ble_eq_true rfl) hd1 (okX21_lay l E A (d - 1)  (by omega)  e55 am1) rfl ?_
              obtain ⟨c58, h⟩ := hk_ok h
              obtain ⟨σ59, hσ59, h⟩ := hl_ok h
              refine hs_iast hC A23_22 c58 dX21_checkFunction_175 ?_
              rw [← hσ59]
              refine hr_aload_n hC dX21_checkFunction_176 rfl ?_
              refine hr_aload_n hC dX21_checkFunction_177 rfl ?_
              refine hr_gA hC F23_19 rfl dX21_checkFunction_178 q2861 ?_
              refine hr_iload hC dX21_checkFunction_181 rfl ?_
              obtain ⟨c60, h⟩ := hk_ok h
              refine hs_iald hC A23_19 c60 dX21_checkFunction_183 ?_
              refine hr_iload hC dX21_checkFunction_184 rfl ?_
              obtain ⟨r63, e64, h⟩ := hx_bind h
              have J65 : hc_At hc_V0 E 9 X 209 [(0, .ref (E.2.1 23)), (1, .int y1), (2, .int y2), (4, .int y4), (5, .int y5), (6, .int y6)] [.int r63, .int (gC σ59 23 19 y6), .ref (E.2.1 23)] σ59 am1 [] := by
                refine hr_iconst (v := 0) hC dX21_checkFunction_209 rfl ?_
                refine hr_aload_n hC dX21_checkFunction_210 rfl ?_
                refine hr_gA hC F23_22 rfl dX21_checkFunction_211 q2864 ?_
                refine hr_iload hC dX21_checkFunction_214 rfl ?_
                obtain ⟨c70, h⟩ := hk_ok h
                refine hs_iald hC A23_22 c70 dX21_checkFunction_216 ?_
                obtain ⟨r71, e72, h⟩ := hx_bind h
                refine hs_callV0 hC 23 [_, _, _, _] _ dX21_checkFunction_217 q3418 q3420 qs241 q335 q3421 np_X21 rfl OB_23 pd_X21_know (Nat.le_of_ble_eq_true rfl) hd1 (okX21_know l E A (d - 1)  (by omega)  e72 am1) rfl ?_
                refine hr_aload_n hC dX21_checkFunction_220 rfl ?_
                refine hr_gA hC F23_25 rfl dX21_checkFunction_221 q2867 ?_
                refine hr_iload hC dX21_checkFunction_224 rfl ?_
                obtain ⟨c75, h⟩ := hk_ok h
                refine hs_iald hC A23_25 c75 dX21_checkFunction_226 ?_
                refine hr_istore hC dX21_checkFunction_227 (by decide) ?_
                refine hr_goto hC 80 dX21_checkFunction_229 (by decide) ?_
                exact hr_sub _ rfl (ih _ _ _ _ _ _ _ am1 h JX)
              clear h
              have h := e64
              refine hr_if_ne (x := _) hC 193 dX21_checkFunction_186 (by decide) (fun c62 => ?_) (fun c62 => ?_)
              · rw [if_neg c62] at h
                refine hr_aload_n hC dX21_checkFunction_193 rfl ?_
                refine hr_gA hC F23_26 rfl dX21_checkFunction_194 q2868 ?_
                refine hr_iload hC dX21_checkFunction_197 rfl ?_
                obtain ⟨c67, h⟩ := hk_ok h
                refine hs_iald hC A23_26 c67 dX21_checkFunction_199 ?_
                refine hr_iconst (v := 1) hC dX21_checkFunction_200 rfl ?_
                refine hr_icmp_ne (x := _) hC 208 dX21_checkFunction_201 (by decide) (fun c69 => ?_) (fun c69 => ?_)
                · rw [if_neg c69] at h
                  refine hr_iconst (v := 2) hC dX21_checkFunction_208 rfl ?_
                  obtain rfl := Option.some.inj h
                  exact hr_sub _ rfl (J65)
                · rw [if_pos c69] at h
                  refine hr_iconst (v := 3) hC dX21_checkFunction_204 rfl ?_
                  refine hr_goto hC 209 dX21_checkFunction_205 (by decide) ?_
                  obtain rfl := Option.some.inj h
                  exact hr_sub _ rfl (J65)
              · rw [if_pos c62] at h
                refine hr_iconst (v := 1) hC dX21_checkFunction_189 rfl ?_
                refine hr_goto hC 209 dX21_checkFunction_190 (by decide) ?_
                obtain rfl := Option.some.inj h
                exact hr_sub _ rfl (J65)
            refine hr_if_eq (x := _) hC 169 dX21_checkFunction_159 (by decide) (fun c78 => ?_) (fun c78 => ?_)
            · refine hr_iload hC dX21_checkFunction_169 rfl ?_
              exact hr_sub _ rfl (J76 _ (by first | (rw [if_pos c78]; done) | (simp only [if_pos c78]; done) | rfl))
            · refine hr_iconst (v := 4) hC dX21_checkFunction_162 rfl ?_
              refine hr_iload hC dX21_checkFunction_163 rfl ?_
              refine hr_iadd hC dX21_checkFunction_165 ?_
              refine hr_goto hC 171 dX21_checkFunction_166 (by decide) ?_
              exact hr_sub _ rfl (J76 _ (by first | (rw [if_neg c78]; done) | (simp only [if_neg c78]; done) | rfl))
          refine hr_icmp_ne (x := _) hC 147 dX21_checkFunction_140 (by decide) (fun c81 => ?_) (fun c81 => ?_)
          · refine hr_iconst (v := 0) hC dX21_checkFunction_147 rfl ?_
            exact hr_sub _ rfl (J79 _ (by first | (rw [if_neg c81]; done) | (simp only [if_neg c81]; done) | rfl))
          · refine hr_iconst (v := 1) hC dX21_checkFunction_143 rfl ?_
            refine hr_goto hC 148 dX21_checkFunction_144 (by decide) ?_
            exact hr_sub _ rfl (J79 _ (by first | (rw [if_pos c81]; done) | (simp only [if_pos c81]; done) | rfl))
        refine hr_if_eq (x := _) hC 127 dX21_checkFunction_120 (by decide) (fun c84 => ?_) (fun c84 => ?_)
        · refine hr_iconst (v := 1) hC dX21_checkFunction_127 rfl ?_
          exact hr_sub _ rfl (J82 _ (by first | (rw [if_pos c84]; done) | (simp only [if_pos c84]; done) | rfl))
        · refine hr_iconst (v := 2) hC dX21_checkFunction_123 rfl ?_
          refine hr_goto hC 128 dX21_checkFunction_124 (by decide) ?_
          exact hr_sub _ rfl (J82 _ (by first | (rw [if_neg c84]; done) | (simp only [if_neg c84]; done) | rfl))
      refine hr_if_lt (x := _) hC 110 dX21_checkFunction_103 (by decide) (fun c87 => ?_) (fun c87 => ?_)
      · refine hr_iconst (v := 0) hC dX21_checkFunction_110 rfl ?_
        exact hr_sub _ rfl (J85 _ (by first | (rw [if_pos c87]; done) | (simp only [if_pos c87]; done) | rfl))
      · refine hr_iconst (v := 1) hC dX21_checkFunction_106 rfl ?_
        refine hr_goto hC 111 dX21_checkFunction_107 (by decide) ?_
        exact hr_sub _ rfl (J85 _ (by first | (rw [if_neg c87]; done) | (simp only [if_neg c87]; done) | rfl))
set_option maxRecDepth 20000 in
set_option maxHeartbeats 4000000 in
theorem okX21_checkFunction (l : Launch) (E : hc_E) (A : Nat → Prop) (d : Nat) (n : Nat) (k0 : Nat) (hD : 3 * k0 + 18 ≤ d) {x1 : Int32} {σ : hc_St} {r : hc_St} (h : fm_X21_checkFunction n k0 x1 σ = some r) (am : Nat → Nat → Nat) : hc_M l hc_V0 yX21_checkFunction (ws_ yX21_checkFunction cX21_checkFunction 9 none) d E A [.ref (E.2.1 23), .int x1] am [] σ (.inl none) r := by
  have hd1 : 1 ≤ d := by omega
  have hd8 : 9 ≤ d := by omega
  have hd12 : 12 ≤ d := by omega
  refine hc_enter2 (own := RX21) [(0, .ref (E.2.1 23)), (1, .int x1)] pl_X21 rfl hc_V0_st hc_G0_nd rfl (Nat.le_of_ble_eq_true rfl) (fun X hC hem => ?_)
  unfold fm_X21_checkFunction at h
  refine hr_aload_n hC dX21_checkFunction_0 rfl ?_
  refine hr_gA hC F23_44 rfl dX21_checkFunction_1 q2885 ?_
  refine hr_iload_n hC dX21_checkFunction_4 rfl ?_
  obtain ⟨c1, h⟩ := hk_ok h
  refine hs_iald hC A23_44 c1 dX21_checkFunction_5 ?_
  refine hr_istore_n hC dX21_checkFunction_6 (by decide) ?_
  refine hr_aload_n hC dX21_checkFunction_7 rfl ?_
  refine hr_gA hC F23_19 rfl dX21_checkFunction_8 q2861 ?_
  refine hr_iload_n hC dX21_checkFunction_11 rfl ?_
  obtain ⟨c2, h⟩ := hk_ok h
  refine hs_iald hC A23_19 c2 dX21_checkFunction_12 ?_
  refine hr_istore_n hC dX21_checkFunction_13 (by decide) ?_
  refine hr_aload_n hC dX21_checkFunction_14 rfl ?_
  refine hr_iload_n hC dX21_checkFunction_15 rfl ?_
  obtain ⟨r3, e4, h⟩ := hx_bind h
  refine hs_callV0 hC 23 [_] _ dX21_checkFunction_16 q3382 q3384 qs232 q335 q3385 np_X21 rfl OB_23 pd_X21_findOwn (Nat.le_of_ble_eq_true rfl) hd1 (okX21_findOwn l E A (d - 1) n (by omega)  e4 am) rfl ?_
  obtain ⟨r9, e10, h⟩ := hx_bind h
  have J11 : hc_At hc_V0 E 9 X 37 [(0, .ref (E.2.1 23)), (1, .int x1), (2, .int (gC σ 23 44 x1))] [] r9 am [] := by
    refine hr_aload_n hC dX21_checkFunction_37 rfl ?_
    refine hr_gI hC F23_38 dX21_checkFunction_38 q2879 ?_
    refine hr_istore hC dX21_checkFunction_41 (by decide) ?_
    refine hr_aload_n hC dX21_checkFunction_43 rfl ?_
    refine hr_gI hC F23_42 dX21_checkFunction_44 q2883 ?_
    refine hr_istore hC dX21_checkFunction_47 (by decide) ?_
    refine hr_aload_n hC dX21_checkFunction_49 rfl ?_
    refine hr_aload_n hC dX21_checkFunction_50 rfl ?_
    refine hr_gI hC F23_38 dX21_checkFunction_51 q2879 ?_
    obtain ⟨σ27, hσ27, h⟩ := hl_ok h
    refine hr_pI hC F23_42 PX21_42 dX21_checkFunction_54 q2883 ?_
    rw [← hσ27]
    refine hr_aload_n hC dX21_checkFunction_57 rfl ?_
    refine hr_iload_n hC dX21_checkFunction_58 rfl ?_
    obtain ⟨σ28, hσ28, h⟩ := hl_ok h
    refine hr_pI hC F23_48 PX21_48 dX21_checkFunction_59 q2889 ?_
    rw [← hσ28]
    refine hr_aload_n hC dX21_checkFunction_62 rfl ?_
    refine hr_iconst (v := 4) hC dX21_checkFunction_63 rfl ?_
    obtain ⟨σ29, hσ29, h⟩ := hl_ok h
    refine hr_pI hC F23_47 PX21_47 dX21_checkFunction_64 q2888 ?_
    rw [← hσ29]
    refine hr_aload_n hC dX21_checkFunction_67 rfl ?_
    refine hr_iconst (v := 0) hC dX21_checkFunction_68 rfl ?_
    obtain ⟨σ30, hσ30, h⟩ := hl_ok h
    refine hr_pI hC F23_59 PX21_59 dX21_checkFunction_69 q2900 ?_
    rw [← hσ30]
    refine hr_aload_n hC dX21_checkFunction_72 rfl ?_
    refine hr_gA hC F23_21 rfl dX21_checkFunction_73 q2863 ?_
    refine hr_iload_n hC dX21_checkFunction_76 rfl ?_
    obtain ⟨c31, h⟩ := hk_ok h
    refine hs_iald hC A23_21 c31 dX21_checkFunction_77 ?_
    refine hr_istore hC dX21_checkFunction_78 (by decide) ?_
    obtain ⟨r88, e89, h⟩ := hx_bind h
    refine hr_sub _ rfl (ll_X21_checkFunction_80 n k0 hD hem hC n _ _ _ _ _ _ _ am e89 ?_)
    refine hr_aload_n hC dX21_checkFunction_232 rfl ?_
    refine hr_aload_n hC dX21_checkFunction_233 rfl ?_
    refine hr_gA hC F23_21 rfl dX21_checkFunction_234 q2863 ?_
    refine hr_aload_n hC dX21_checkFunction_237 rfl ?_
    refine hr_gA hC F23_22 rfl dX21_checkFunction_238 q2864 ?_
    refine hr_iload_n hC dX21_checkFunction_241 rfl ?_
    obtain ⟨c93, h⟩ := hk_ok h
    refine hs_iald hC A23_22 c93 dX21_checkFunction_242 ?_
    obtain ⟨c94, h⟩ := hk_ok h
    refine hs_iald hC A23_21 c94 dX21_checkFunction_243 ?_
    obtain ⟨r95, e96, h⟩ := hx_bind h
    refine hs_callV0 hC 23 [_] _ dX21_checkFunction_244 q3422 q3424 qs242 q335 q3425 np_X21 rfl OB_23 pd_X21_statements (Nat.le_of_ble_eq_true rfl) hd1 (okX21_statements l E A (d - 1) n k0 (by omega)  e96 am) rfl ?_
    refine hr_aload_n hC dX21_checkFunction_247 rfl ?_
    refine hr_iconst (v := 0) hC dX21_checkFunction_248 rfl ?_
    obtain ⟨σ99, hσ99, h⟩ := hl_ok h
    refine hr_pI hC F23_64 PX21_64 dX21_checkFunction_249 q2905 ?_
    rw [← hσ99]
    refine hr_aload_n hC dX21_checkFunction_252 rfl ?_
    refine hr_gI hC F23_34 dX21_checkFunction_253 q2876 ?_
    obtain ⟨r102, e103, h⟩ := hx_bind h
    have J104 : hc_At hc_V0 E 9 X 274 [(0, .ref (E.2.1 23)), (1, .int x1), (4, .int (gI r9 23 38)), (5, .int (gI r9 23 42))] [] r102 am [] := by
      refine hr_aload_n hC dX21_checkFunction_274 rfl ?_
      refine hr_gA hC F23_45 rfl dX21_checkFunction_275 q2886 ?_
      refine hr_iload_n hC dX21_checkFunction_278 rfl ?_
      refine hr_aload_n hC dX21_checkFunction_279 rfl ?_
      refine hr_gI hC F23_47 dX21_checkFunction_280 q2888 ?_
      refine hr_aload_n hC dX21_checkFunction_283 rfl ?_
      refine hr_gI hC F23_64 dX21_checkFunction_284 q2905 ?_
      refine hr_iadd hC dX21_checkFunction_287 ?_
      obtain ⟨c112, h⟩ := hk_ok h
      obtain ⟨σ113, hσ113, h⟩ := hl_ok h
      refine hs_iast hC A23_45 c112 dX21_checkFunction_288 ?_
      rw [← hσ113]
      refine hr_aload_n hC dX21_checkFunction_289 rfl ?_
      refine hr_gA hC F23_61 rfl dX21_checkFunction_290 q2902 ?_
      refine hr_iload_n hC dX21_checkFunction_293 rfl ?_
      refine hr_aload_n hC dX21_checkFunction_294 rfl ?_
      refine hr_gI hC F23_59 dX21_checkFunction_295 q2900 ?_
      obtain ⟨c114, h⟩ := hk_ok h
      obtain ⟨σ115, hσ115, h⟩ := hl_ok h
      refine hs_iast hC A23_61 c114 dX21_checkFunction_298 ?_
      rw [← hσ115]
      refine hr_aload_n hC dX21_checkFunction_299 rfl ?_
      refine hr_iconst (v := (-1)) hC dX21_checkFunction_300 rfl ?_
      obtain ⟨σ116, hσ116, h⟩ := hl_ok h
      refine hr_pI hC F23_48 PX21_48 dX21_checkFunction_301 q2889 ?_
      rw [← hσ116]
      refine hr_aload_n hC dX21_checkFunction_304 rfl ?_
      refine hr_iload hC dX21_checkFunction_305 rfl ?_
      refine hr_iload hC dX21_checkFunction_307 rfl ?_
      obtain ⟨r117, e118, h⟩ := hx_bind h
      refine hs_callV0 hC 23 [_, _] _ dX21_checkFunction_309 q3434 q3436 qs245 q335 q3437 np_X21 rfl OB_23 pd_X21_leave (Nat.le_of_ble_eq_true rfl) hd1 (okX21_leave l E A (d - 1)  (by omega)  e118 am) rfl ?_
      obtain rfl := Option.some.inj h
      exact hr_vret hC dX21_checkFunction_312
    clear h
    have h := e103
    refine hr_if_ne (x := _) hC 274 dX21_checkFunction_256 (by decide) (fun c101 => ?_) (fun c101 => ?_)
    · rw [if_neg c101] at h
      obtain rfl := Option.some.inj h
      exact hr_sub _ rfl (J104)
    · rw [if_pos c101] at h
      refine hr_aload_n hC dX21_checkFunction_259 rfl ?_
      refine hr_aload_n hC dX21_checkFunction_260 rfl ?_
      refine hr_gA hC F23_21 rfl dX21_checkFunction_261 q2863 ?_
      refine hr_aload_n hC dX21_checkFunction_264 rfl ?_
      refine hr_gA hC F23_22 rfl dX21_checkFunction_265 q2864 ?_
      refine hr_iload_n hC dX21_checkFunction_268 rfl ?_
      obtain ⟨c106, h⟩ := hk_ok h
      refine hs_iald hC A23_22 c106 dX21_checkFunction_269 ?_
      obtain ⟨c107, h⟩ := hk_ok h
      refine hs_iald hC A23_21 c107 dX21_checkFunction_270 ?_
      obtain ⟨r108, e109, h⟩ := hx_bind h
      refine hs_callV0 hC 23 [_] _ dX21_checkFunction_271 q3518 q3520 qs266 q335 q3521 np_X21 rfl OB_23 pd_X21_measure (Nat.le_of_ble_eq_true rfl) hd1 (okX21_measure l E A (d - 1) n k0 (by omega)  e109 am) rfl ?_
      obtain rfl := Option.some.inj h
      exact hr_sub _ rfl (J104)
  clear h
  have h := e10
  refine hr_if_ge (x := _) hC 31 dX21_checkFunction_19 (by decide) (fun c8 => ?_) (fun c8 => ?_)
  · rw [if_pos c8] at h
    refine hr_aload_n hC dX21_checkFunction_31 rfl ?_
    refine hr_iconst (v := 1) hC dX21_checkFunction_32 rfl ?_
    refine hr_iload_n hC dX21_checkFunction_33 rfl ?_
    obtain ⟨r13, e14, h⟩ := hx_bind h
    refine hs_callV0 hC 23 [_, _] _ dX21_checkFunction_34 q3398 q3400 qs236 q335 q3401 np_X21 rfl OB_23 pd_X21_bad (Nat.le_of_ble_eq_true rfl) hd1 (okX21_bad l E A (d - 1)  (by omega)  e14 am) rfl ?_
    obtain rfl := Option.some.inj h
    exact hr_sub _ rfl (J11)
  · rw [if_neg c8] at h
    refine hr_aload_n hC dX21_checkFunction_22 rfl ?_
    refine hr_iload_n hC dX21_checkFunction_23 rfl ?_
    obtain ⟨r17, e18, h⟩ := hx_bind h
    refine hs_callV0 hC 23 [_] _ dX21_checkFunction_24 q3390 q3392 qs234 q335 q3393 np_X21 rfl OB_23 pd_X21_findFunction (Nat.le_of_ble_eq_true rfl) hd1 (okX21_findFunction l E A (d - 1) n (by omega)  e18 am) rfl ?_
    refine hr_iload_n hC dX21_checkFunction_27 rfl ?_
    refine hr_icmp_eq (x := _) hC 37 dX21_checkFunction_28 (by decide) (fun c22 => ?_) (fun c22 => ?_)
    · rw [if_pos c22] at h
      obtain rfl := Option.some.inj h
      exact hr_sub _ rfl (J11)
    · rw [if_neg c22] at h
      refine hr_aload_n hC dX21_checkFunction_31 rfl ?_
      refine hr_iconst (v := 1) hC dX21_checkFunction_32 rfl ?_
      refine hr_iload_n hC dX21_checkFunction_33 rfl ?_
      obtain ⟨r23, e24, h⟩ := hx_bind h
      refine hs_callV0 hC 23 [_, _] _ dX21_checkFunction_34 q3398 q3400 qs236 q335 q3401 np_X21 rfl OB_23 pd_X21_bad (Nat.le_of_ble_eq_true rfl) hd1 (okX21_bad l E A (d - 1)  (by omega)  e24 am) rfl ?_
      obtain rfl := Option.some.inj h
      exact hr_sub _ rfl (J11)
def lp_X21_checkEnum_9 (n : Nat) (k0 : Nat) : Nat → Int32 → Int32 → hc_St → Option (hc_St)
  | 0, _, _, _ => none
  | m + 1, y2, y3, σ => if y3 < 0 then (some (σ)) else (hk (inb y3 (gL σ 23 19)) <| Option.bind (fm_X21_checkNew n ((gC σ 23 19 y3)) σ) fun r5 => hk (inb y3 (gL r5 23 21)) <| Option.bind (α := hc_St × Int32) (if (gC r5 23 21 y3) < 0 then (some (r5, y2)) else (hk (inb y3 (gL r5 23 21)) <| Option.bind (fm_X21_checkConstant n k0 ((gC r5 23 21 y3)) r5) fun r17 => if r17.1 = 0 then (some (r17.2, y2)) else (some (r17.2, (gI r17.2 23 62))))) fun r12 => hk (inb y3 (gL r12.1 23 22)) <| hl (pC r12.1 23 22 y3 r12.2) fun σ24 => hk (inb y3 (gL σ24 23 19)) <| Option.bind (fm_X21_know ((gC σ24 23 19 y3)) 4 r12.2 ((-1)) σ24) fun r26 => hk (inb y3 (gL r26 23 25)) <| lp_X21_checkEnum_9 n k0 m ((r12.2 + 1)) ((gC r26 23 25 y3)) r26)
/-- HomeCompilerModel.checkEnum(I)V -/
def fm_X21_checkEnum (n : Nat) (k0 : Nat) (x1 : Int32) (σ : hc_St) : Option hc_St := hk (inb x1 (gL σ 23 21)) <| Option.bind (lp_X21_checkEnum_9 n k0 n 0 ((gC σ 23 21 x1)) σ) fun r31 => some r31
set_option maxRecDepth 20000 in
set_option maxHeartbeats 4000000 in
theorem ll_X21_checkEnum_9 {l : Launch} {E : hc_E} {A : Nat → Prop} {am : Nat → Nat → Nat} {d : Nat} {X : hc_X} (n : Nat) (k0 : Nat) (hD : 2 * k0 + 15 ≤ d) (hem : X.2.2.2.2.2.2.2.2.2.1.exceptionTable.isEmpty = true) {oc : hc_Oc} {σe : hc_St} (hC : hc_C hc_V0 E cX21_checkEnum 4 RX21 none d oc σe (l, A, am, []) X) : ∀ (m : Nat) (σ : hc_St) (y2 : Int32) (y3 : Int32) (rl : hc_St) (am1 : Nat → Nat → Nat), lp_X21_checkEnum_9 n k0 m y2 y3 σ = some rl → (hc_At hc_V0 E 4 X 83 [] [] rl am1 []) → hc_At hc_V0 E 4 X 9 [(0, .ref (E.2.1 23)), (2, .int y2), (3, .int y3)] [] σ am1 [] := by
  have hd1 : 1 ≤ d := by omega
  have hd8 : 9 ≤ d := by omega
  have hd12 : 12 ≤ d := by omega
  intro m
  induction m with
  | zero =>
    intro σ y2 y3 rl am1 h
    cases h
  | succ m ih =>
    intro σ y2 y3 rl am1 h JX
    rw [lp_X21_checkEnum_9] at h
    refine hr_iload_n hC dX21_checkEnum_9 rfl ?_
    refine hr_if_lt (x := _) hC 83 dX21_checkEnum_10 (by decide) (fun c3 => ?_) (fun c3 => ?_)
    · rw [if_pos c3] at h
      obtain rfl := Option.some.inj h
      exact hr_sub _ rfl (JX)
    · rw [if_neg c3] at h
      refine hr_aload_n hC dX21_checkEnum_13 rfl ?_
      refine hr_aload_n hC dX21_checkEnum_14 rfl ?_
      refine hr_gA hC F23_19 rfl dX21_checkEnum_15 q2861 ?_
      refine hr_iload_n hC dX21_checkEnum_18 rfl ?_
      obtain ⟨c4, h⟩ := hk_ok h
      refine hs_iald hC A23_19 c4 dX21_checkEnum_19 ?_
      obtain ⟨r5, e6, h⟩ := hx_bind h
      refine hs_callV0 hC 23 [_] _ dX21_checkEnum_20 q3402 q3404 qs237 q335 q3405 np_X21 rfl OB_23 pd_X21_checkNew (Nat.le_of_ble_eq_true rfl) hd1 (okX21_checkNew l E A (d - 1) n (by omega)  e6 am1) rfl ?_
      refine hr_aload_n hC dX21_checkEnum_23 rfl ?_
      refine hr_gA hC F23_21 rfl dX21_checkEnum_24 q2863 ?_
      refine hr_iload_n hC dX21_checkEnum_27 rfl ?_
      obtain ⟨c9, h⟩ := hk_ok h
      refine hs_iald hC A23_21 c9 dX21_checkEnum_28 ?_
      obtain ⟨r12, e13, h⟩ := hx_bind h
      have J14 : hc_At hc_V0 E 4 X 50 [(0, .ref (E.2.1 23)), (2, .int r12.2), (3, .int y3)] [] r12.1 am1 [] := by
        refine hr_aload_n hC dX21_checkEnum_50 rfl ?_
        refine hr_gA hC F23_22 rfl dX21_checkEnum_51 q2864 ?_
        refine hr_iload_n hC dX21_checkEnum_54 rfl ?_
        refine hr_iload_n hC dX21_checkEnum_55 rfl ?_
        obtain ⟨c23, h⟩ := hk_ok h
        obtain ⟨σ24, hσ24, h⟩ := hl_ok h
        refine hs_iast hC A23_22 c23 dX21_checkEnum_56 ?_
        rw [← hσ24]
        refine hr_aload_n hC dX21_checkEnum_57 rfl ?_
        refine hr_aload_n hC dX21_checkEnum_58 rfl ?_
        refine hr_gA hC F23_19 rfl dX21_checkEnum_59 q2861 ?_
        refine hr_iload_n hC dX21_checkEnum_62 rfl ?_
        obtain ⟨c25, h⟩ := hk_ok h
        refine hs_iald hC A23_19 c25 dX21_checkEnum_63 ?_
        refine hr_iconst (v := 4) hC dX21_checkEnum_64 rfl ?_
        refine hr_iload_n hC dX21_checkEnum_65 rfl ?_
        refine hr_iconst (v := (-1)) hC dX21_checkEnum_66 rfl ?_
        obtain ⟨r26, e27, h⟩ := hx_bind h
        refine hs_callV0 hC 23 [_, _, _, _] _ dX21_checkEnum_67 q3418 q3420 qs241 q335 q3421 np_X21 rfl OB_23 pd_X21_know (Nat.le_of_ble_eq_true rfl) hd1 (okX21_know l E A (d - 1)  (by omega)  e27 am1) rfl ?_
        refine hr_iinc (v := r12.2 + 1) hC dX21_checkEnum_70 rfl rfl (by decide) ?_
        refine hr_aload_n hC dX21_checkEnum_73 rfl ?_
        refine hr_gA hC F23_25 rfl dX21_checkEnum_74 q2867 ?_
        refine hr_iload_n hC dX21_checkEnum_77 rfl ?_
        obtain ⟨c30, h⟩ := hk_ok h
        refine hs_iald hC A23_25 c30 dX21_checkEnum_78 ?_
        refine hr_istore_n hC dX21_checkEnum_79 (by decide) ?_
        refine hr_goto hC 9 dX21_checkEnum_80 (by decide) ?_
        exact hr_sub _ rfl (ih _ _ _ _ am1 h JX)
      clear h
      have h := e13
      refine hr_if_lt (x := _) hC 50 dX21_checkEnum_29 (by decide) (fun c11 => ?_) (fun c11 => ?_)
      · rw [if_pos c11] at h
        obtain rfl := Option.some.inj h
        exact hr_sub _ rfl (J14)
      · rw [if_neg c11] at h
        refine hr_aload_n hC dX21_checkEnum_32 rfl ?_
        refine hr_aload_n hC dX21_checkEnum_33 rfl ?_
        refine hr_gA hC F23_21 rfl dX21_checkEnum_34 q2863 ?_
        refine hr_iload_n hC dX21_checkEnum_37 rfl ?_
        obtain ⟨c16, h⟩ := hk_ok h
        refine hs_iald hC A23_21 c16 dX21_checkEnum_38 ?_
        obtain ⟨r17, e18, h⟩ := hx_bind h
        refine hs_callV0 hC 23 [_] _ dX21_checkEnum_39 q3462 q3464 qs252 q335 q3465 np_X21 rfl OB_23 pd_X21_checkConstant (Nat.le_of_ble_eq_true rfl) hd1 (okX21_checkConstant l E A (d - 1) n k0 (by omega)  e18 am1) rfl ?_
        refine hr_if_eq (x := _) hC 50 dX21_checkEnum_42 (by decide) (fun c22 => ?_) (fun c22 => ?_)
        · rw [if_pos c22] at h
          obtain rfl := Option.some.inj h
          exact hr_sub _ rfl (J14)
        · rw [if_neg c22] at h
          refine hr_aload_n hC dX21_checkEnum_45 rfl ?_
          refine hr_gI hC F23_62 dX21_checkEnum_46 q2903 ?_
          refine hr_istore_n hC dX21_checkEnum_49 (by decide) ?_
          obtain rfl := Option.some.inj h
          exact hr_sub _ rfl (J14)
set_option maxRecDepth 20000 in
set_option maxHeartbeats 4000000 in
theorem okX21_checkEnum (l : Launch) (E : hc_E) (A : Nat → Prop) (d : Nat) (n : Nat) (k0 : Nat) (hD : 2 * k0 + 15 ≤ d) {x1 : Int32} {σ : hc_St} {r : hc_St} (h : fm_X21_checkEnum n k0 x1 σ = some r) (am : Nat → Nat → Nat) : hc_M l hc_V0 yX21_checkEnum (ws_ yX21_checkEnum cX21_checkEnum 4 none) d E A [.ref (E.2.1 23), .int x1] am [] σ (.inl none) r := by
  have hd1 : 1 ≤ d := by omega
  have hd8 : 9 ≤ d := by omega
  have hd12 : 12 ≤ d := by omega
  refine hc_enter2 (own := RX21) [(0, .ref (E.2.1 23)), (1, .int x1)] pl_X21 rfl hc_V0_st hc_G0_nd rfl (Nat.le_of_ble_eq_true rfl) (fun X hC hem => ?_)
  unfold fm_X21_checkEnum at h
  refine hr_iconst (v := 0) hC dX21_checkEnum_0 rfl ?_
  refine hr_istore_n hC dX21_checkEnum_1 (by decide) ?_
  refine hr_aload_n hC dX21_checkEnum_2 rfl ?_
  refine hr_gA hC F23_21 rfl dX21_checkEnum_3 q2863 ?_
  refine hr_iload_n hC dX21_checkEnum_6 rfl ?_
  obtain ⟨c1, h⟩ := hk_ok h
  refine hs_iald hC A23_21 c1 dX21_checkEnum_7 ?_
  refine hr_istore_n hC dX21_checkEnum_8 (by decide) ?_
  obtain ⟨r31, e32, h⟩ := hx_bind h
  refine hr_sub _ rfl (ll_X21_checkEnum_9 n k0 hD hem hC n _ _ _ _ am e32 ?_)
  obtain rfl := Option.some.inj h
  exact hr_vret hC dX21_checkEnum_83
def lp_X21_hasMain_2 (n : Nat) : Nat → Int32 → hc_St → Option Int32
  | 0, _, _ => none
  | m + 1, y1, σ => if (gI σ 23 43) ≤ y1 then (some 0) else (hk (inb y1 (gL σ 23 44)) <| hk (inb ((gC σ 23 44 y1)) (gL σ 23 21)) <| Option.bind (α := Int32) (if (gC σ 23 21 ((gC σ 23 44 y1))) < 0 then (some (0)) else (hk (inb ((gC σ 23 44 y1)) (gL σ 23 21)) <| hk (inb ((gC σ 23 21 ((gC σ 23 44 y1)))) (gL σ 23 25)) <| if 0 ≤ (gC σ 23 25 ((gC σ 23 21 ((gC σ 23 44 y1))))) then (some (0)) else (hk (inb ((gC σ 23 44 y1)) (gL σ 23 21)) <| hk (inb ((gC σ 23 21 ((gC σ 23 44 y1)))) (gL σ 23 21)) <| if 0 ≤ (gC σ 23 21 ((gC σ 23 21 ((gC σ 23 44 y1))))) then (some (0)) else (hk (inb ((gC σ 23 44 y1)) (gL σ 23 21)) <| hk (inb ((gC σ 23 21 ((gC σ 23 44 y1)))) (gL σ 23 26)) <| if (gC σ 23 26 ((gC σ 23 21 ((gC σ 23 44 y1))))) = 0 then (some (1)) else (some (0)))))) fun r7 => hk (inb ((gC σ 23 44 y1)) (gL σ 23 19)) <| Option.bind (fm_X21_isNamed n ((gC σ 23 19 ((gC σ 23 44 y1)))) 121 σ) fun r24 => if r24 = 0 then (lp_X21_hasMain_2 n m ((y1 + 1)) σ) else (hk (inb ((gC σ 23 44 y1)) (gL σ 23 26)) <| if (gC σ 23 26 ((gC σ 23 44 y1))) = 0 then (if r7 = 0 then (lp_X21_hasMain_2 n m ((y1 + 1)) σ) else (some 1)) else (lp_X21_hasMain_2 n m ((y1 + 1)) σ)))
/-- HomeCompilerModel.hasMain()Z -/
def fm_X21_hasMain (n : Nat)  (σ : hc_St) : Option Int32 := lp_X21_hasMain_2 n n 0 σ
set_option maxRecDepth 20000 in
set_option maxHeartbeats 4000000 in
theorem ll_X21_hasMain_2 {l : Launch} {E : hc_E} {A : Nat → Prop} {am : Nat → Nat → Nat} {d : Nat} {X : hc_X} (n : Nat) (hD : 11 ≤ d) (hem : X.2.2.2.2.2.2.2.2.2.1.exceptionTable.isEmpty = true) : ∀ (m : Nat) (σ : hc_St) (y1 : Int32) (rl : Int32), lp_X21_hasMain_2 n m y1 σ = some rl → hc_C hc_V0 E cX21_hasMain 4 RX21 (some .boolean) d (.inl (some (.int rl))) σ (l, A, am, []) X → ∀ am1, hc_At hc_V0 E 4 X 2 [(0, .ref (E.2.1 23)), (1, .int y1)] [] σ am1 [] := by
  have hd1 : 1 ≤ d := by omega
  have hd8 : 9 ≤ d := by omega
  intro m
  induction m with
  | zero =>
    intro σ y1 rl h
    cases h
  | succ m ih =>
    intro σ y1 rl h hC am1
    rw [lp_X21_hasMain_2] at h
    refine hr_iload_n hC dX21_hasMain_2 rfl ?_
    refine hr_aload_n hC dX21_hasMain_3 rfl ?_
    refine hr_gI hC F23_43 dX21_hasMain_4 q2884 ?_
    refine hr_icmp_ge (x := _) hC 111 dX21_hasMain_7 (by decide) (fun c2 => ?_) (fun c2 => ?_)
    · rw [if_pos c2] at h
      refine hr_iconst (v := 0) hC dX21_hasMain_111 rfl ?_
      obtain rfl := Option.some.inj h
      exact hr_zret hC rfl dX21_hasMain_112
    · rw [if_neg c2] at h
      refine hr_aload_n hC dX21_hasMain_10 rfl ?_
      refine hr_gA hC F23_44 rfl dX21_hasMain_11 q2885 ?_
      refine hr_iload_n hC dX21_hasMain_14 rfl ?_
      obtain ⟨c3, h⟩ := hk_ok h
      refine hs_iald hC A23_44 c3 dX21_hasMain_15 ?_
      refine hr_istore_n hC dX21_hasMain_16 (by decide) ?_
      refine hr_aload_n hC dX21_hasMain_17 rfl ?_
      refine hr_gA hC F23_21 rfl dX21_hasMain_18 q2863 ?_
      refine hr_iload_n hC dX21_hasMain_21 rfl ?_
      obtain ⟨c4, h⟩ := hk_ok h
      refine hs_iald hC A23_21 c4 dX21_hasMain_22 ?_
      obtain ⟨r7, e8, h⟩ := hx_bind h
      have J9 : hc_At hc_V0 E 4 X 73 [(0, .ref (E.2.1 23)), (1, .int y1), (2, .int (gC σ 23 44 y1))] [.int r7] σ am1 [] := by
        refine hr_istore_n hC dX21_hasMain_73 (by decide) ?_
        refine hr_aload_n hC dX21_hasMain_74 rfl ?_
        refine hr_aload_n hC dX21_hasMain_75 rfl ?_
        refine hr_gA hC F23_19 rfl dX21_hasMain_76 q2861 ?_
        refine hr_iload_n hC dX21_hasMain_79 rfl ?_
        obtain ⟨c23, h⟩ := hk_ok h
        refine hs_iald hC A23_19 c23 dX21_hasMain_80 ?_
        refine hr_ldcsw (v := 121) 121 hC dX21_hasMain_81 (List.mem_of_getElem? (i := 121) rfl) (by decide) rfl ?_
        obtain ⟨r24, e25, h⟩ := hx_bind h
        refine hs_callV0 hC 23 [_, _] _ dX21_hasMain_84 q3386 q3388 qs233 q335 q3389 np_X21 rfl OB_23 pd_X21_isNamed (Nat.le_of_ble_eq_true rfl) hd1 (okX21_isNamed l E A (d - 1) n (by omega)  e25 am1) rfl ?_
        refine hr_if_eq (x := _) hC 105 dX21_hasMain_87 (by decide) (fun c29 => ?_) (fun c29 => ?_)
        · rw [if_pos c29] at h
          refine hr_iinc (v := y1 + 1) hC dX21_hasMain_105 rfl rfl (by decide) ?_
          refine hr_goto hC 2 dX21_hasMain_108 (by decide) ?_
          exact hr_sub _ rfl (ih _ _ _ h hC am1)
        · rw [if_neg c29] at h
          refine hr_aload_n hC dX21_hasMain_90 rfl ?_
          refine hr_gA hC F23_26 rfl dX21_hasMain_91 q2868 ?_
          refine hr_iload_n hC dX21_hasMain_94 rfl ?_
          obtain ⟨c30, h⟩ := hk_ok h
          refine hs_iald hC A23_26 c30 dX21_hasMain_95 ?_
          refine hr_if_ne (x := _) hC 105 dX21_hasMain_96 (by decide) (fun c32 => ?_) (fun c32 => ?_)
          · rw [if_neg c32] at h
            refine hr_iinc (v := y1 + 1) hC dX21_hasMain_105 rfl rfl (by decide) ?_
            refine hr_goto hC 2 dX21_hasMain_108 (by decide) ?_
            exact hr_sub _ rfl (ih _ _ _ h hC am1)
          · rw [if_pos c32] at h
            refine hr_iload_n hC dX21_hasMain_99 rfl ?_
            refine hr_if_eq (x := _) hC 105 dX21_hasMain_100 (by decide) (fun c34 => ?_) (fun c34 => ?_)
            · rw [if_pos c34] at h
              refine hr_iinc (v := y1 + 1) hC dX21_hasMain_105 rfl rfl (by decide) ?_
              refine hr_goto hC 2 dX21_hasMain_108 (by decide) ?_
              exact hr_sub _ rfl (ih _ _ _ h hC am1)
            · rw [if_neg c34] at h
              refine hr_iconst (v := 1) hC dX21_hasMain_103 rfl ?_
              obtain rfl := Option.some.inj h
              exact hr_zret hC rfl dX21_hasMain_104
      clear h
      have h := e8
      refine hr_if_lt (x := _) hC 72 dX21_hasMain_23 (by decide) (fun c6 => ?_) (fun c6 => ?_)
      · rw [if_pos c6] at h
        refine hr_iconst (v := 0) hC dX21_hasMain_72 rfl ?_
        obtain rfl := Option.some.inj h
        exact hr_sub _ rfl (J9)
      · rw [if_neg c6] at h
        refine hr_aload_n hC dX21_hasMain_26 rfl ?_
        refine hr_gA hC F23_25 rfl dX21_hasMain_27 q2867 ?_
        refine hr_aload_n hC dX21_hasMain_30 rfl ?_
        refine hr_gA hC F23_21 rfl dX21_hasMain_31 q2863 ?_
        refine hr_iload_n hC dX21_hasMain_34 rfl ?_
        obtain ⟨c11, h⟩ := hk_ok h
        refine hs_iald hC A23_21 c11 dX21_hasMain_35 ?_
        obtain ⟨c12, h⟩ := hk_ok h
        refine hs_iald hC A23_25 c12 dX21_hasMain_36 ?_
        refine hr_if_ge (x := _) hC 72 dX21_hasMain_37 (by decide) (fun c14 => ?_) (fun c14 => ?_)
        · rw [if_pos c14] at h
          refine hr_iconst (v := 0) hC dX21_hasMain_72 rfl ?_
          obtain rfl := Option.some.inj h
          exact hr_sub _ rfl (J9)
        · rw [if_neg c14] at h
          refine hr_aload_n hC dX21_hasMain_40 rfl ?_
          refine hr_gA hC F23_21 rfl dX21_hasMain_41 q2863 ?_
          refine hr_aload_n hC dX21_hasMain_44 rfl ?_
          refine hr_gA hC F23_21 rfl dX21_hasMain_45 q2863 ?_
          refine hr_iload_n hC dX21_hasMain_48 rfl ?_
          obtain ⟨c15, h⟩ := hk_ok h
          refine hs_iald hC A23_21 c15 dX21_hasMain_49 ?_
          obtain ⟨c16, h⟩ := hk_ok h
          refine hs_iald hC A23_21 c16 dX21_hasMain_50 ?_
          refine hr_if_ge (x := _) hC 72 dX21_hasMain_51 (by decide) (fun c18 => ?_) (fun c18 => ?_)
          · rw [if_pos c18] at h
            refine hr_iconst (v := 0) hC dX21_hasMain_72 rfl ?_
            obtain rfl := Option.some.inj h
            exact hr_sub _ rfl (J9)
          · rw [if_neg c18] at h
            refine hr_aload_n hC dX21_hasMain_54 rfl ?_
            refine hr_gA hC F23_26 rfl dX21_hasMain_55 q2868 ?_
            refine hr_aload_n hC dX21_hasMain_58 rfl ?_
            refine hr_gA hC F23_21 rfl dX21_hasMain_59 q2863 ?_
            refine hr_iload_n hC dX21_hasMain_62 rfl ?_
            obtain ⟨c19, h⟩ := hk_ok h
            refine hs_iald hC A23_21 c19 dX21_hasMain_63 ?_
            obtain ⟨c20, h⟩ := hk_ok h
            refine hs_iald hC A23_26 c20 dX21_hasMain_64 ?_
            refine hr_if_ne (x := _) hC 72 dX21_hasMain_65 (by decide) (fun c22 => ?_) (fun c22 => ?_)
            · rw [if_neg c22] at h
              refine hr_iconst (v := 0) hC dX21_hasMain_72 rfl ?_
              obtain rfl := Option.some.inj h
              exact hr_sub _ rfl (J9)
            · rw [if_pos c22] at h
              refine hr_iconst (v := 1) hC dX21_hasMain_68 rfl ?_
              refine hr_goto hC 73 dX21_hasMain_69 (by decide) ?_
              obtain rfl := Option.some.inj h
              exact hr_sub _ rfl (J9)
set_option maxRecDepth 20000 in
set_option maxHeartbeats 4000000 in
theorem okX21_hasMain (l : Launch) (E : hc_E) (A : Nat → Prop) (d : Nat) (n : Nat) (hD : 11 ≤ d)  {σ : hc_St} {r : Int32} (h : fm_X21_hasMain n  σ = some r) (am : Nat → Nat → Nat) : hc_M l hc_V0 yX21_hasMain (ws_ yX21_hasMain cX21_hasMain 4 (some .boolean)) d E A [.ref (E.2.1 23)] am [] σ (.inl (some (.int r))) σ := by
  have hd1 : 1 ≤ d := by omega
  have hd8 : 9 ≤ d := by omega
  refine hc_enter2 (own := RX21) [(0, .ref (E.2.1 23))] pl_X21 rfl hc_V0_st hc_G0_nd rfl (Nat.le_of_ble_eq_true rfl) (fun X hC hem => ?_)
  unfold fm_X21_hasMain at h
  refine hr_iconst (v := 0) hC dX21_hasMain_0 rfl ?_
  refine hr_istore_n hC dX21_hasMain_1 (by decide) ?_
  exact hr_sub _ rfl (ll_X21_hasMain_2 n hD hem n _ _ _ h hC am)
def lp_X21_checkText_10 (n : Nat) (k0 : Nat) : Nat → Int32 → hc_St → Option (hc_St)
  | 0, _, _ => none
  | m + 1, y1, σ => if y1 < 0 then (some (σ)) else (hk (inb y1 (gL σ 23 18)) <| Option.bind (α := hc_St) (if (gC σ 23 18 y1).toInt8.toInt32 = 41 then (hk (inb ((gI σ 23 43)) (gL σ 23 44)) <| hl (pC σ 23 44 ((gI σ 23 43)) y1) fun σ12 => hl (pI σ12 23 43 ((((gI σ12 23 43)) + 1))) fun σ13 => some (σ13)) else (some (σ))) fun r7 => hk (inb y1 (gL r7 23 25)) <| lp_X21_checkText_10 n k0 m ((gC r7 23 25 y1)) r7)
def lp_X21_checkText_102 (n : Nat) (k0 : Nat) : Nat → Int32 → Int32 → hc_St → Option (hc_St)
  | 0, _, _, _ => none
  | m + 1, y1, y2, σ => if y2 < 0 then (some (σ)) else (hk (inb y2 (gL σ 23 18)) <| Option.bind (α := hc_St × Int32) (if (gC σ 23 18 y2).toInt8.toInt32 = 41 then (Option.bind (fm_X21_checkFunction n k0 y1 σ) fun r52 => some (r52, (y1 + 1))) else (hk (inb y2 (gL σ 23 18)) <| if (gC σ 23 18 y2).toInt8.toInt32 = 43 then (Option.bind (fm_X21_checkEnum n k0 y2 σ) fun r48 => some (r48, y1)) else (hl (pI σ 23 47 0) fun σ40 => hl (pI σ40 23 59 ((gI σ40 23 60))) fun σ41 => Option.bind (fm_X21_declare n k0 y2 1 σ41) fun r42 => hl (pI r42 23 60 ((gI r42 23 59))) fun σ46 => hl (pI σ46 23 46 ((((gI σ46 23 46)) + ((gI σ46 23 47))))) fun σ47 => some (σ47, y1)))) fun r33 => hk (inb y2 (gL r33.1 23 25)) <| lp_X21_checkText_102 n k0 m r33.2 ((gC r33.1 23 25 y2)) r33.1)
def lp_X21_checkText_218 (n : Nat) (k0 : Nat) : Nat → Int32 → hc_St → Option (hc_St)
  | 0, _, _ => none
  | m + 1, y2, σ => if (gI σ 23 43) ≤ y2 then (some (σ)) else (hk (inb y2 (gL σ 23 45)) <| Option.bind (α := hc_St) (if (gC σ 23 45 y2) ≤ 8192 then (some (σ)) else (Option.bind (fm_X21_bad 13 ((((gI σ 23 10)) - 1)) σ) fun r85 => some (r85))) fun r81 => lp_X21_checkText_218 n k0 m ((y2 + 1)) r81)
/-- HomeCompilerModel.checkText()V -/
def fm_X21_checkText (n : Nat) (k0 : Nat)  (σ : hc_St) : Option hc_St := hl (pI σ 23 43 0) fun σ1 => Option.bind (lp_X21_checkText_10 n k0 n ((gI σ1 23 28)) σ1) fun r15 => hl (pI r15 23 38 0) fun σ20 => hl (pI σ20 23 42 0) fun σ21 => hl (pI σ21 23 49 0) fun σ22 => hl (pI σ22 23 50 0) fun σ23 => hl (pI σ23 23 48 ((-1))) fun σ24 => hl (pI σ24 23 53 0) fun σ25 => hl (pI σ25 23 60 0) fun σ26 => hl (pI σ26 23 46 0) fun σ27 => Option.bind (lp_X21_checkText_102 n k0 n 0 ((gI σ27 23 28)) σ27) fun r57 => Option.bind (fm_X21_hasMain n r57) fun r62 => Option.bind (α := hc_St) (if r62 = 0 then (Option.bind (fm_X21_bad 12 ((((gI r57 23 10)) - 1)) r57) fun r72 => some (r72)) else (some (r57))) fun r68 => Option.bind (lp_X21_checkText_218 n k0 n 0 r68) fun r89 => Option.bind (α := hc_St) (if 200 < (gI r89 23 43) then (Option.bind (fm_X21_bad 14 ((((gI r89 23 10)) - 1)) r89) fun r100 => some (r100)) else (if (gI r89 23 46) ≤ 8192 then (some (r89)) else (Option.bind (fm_X21_bad 14 ((((gI r89 23 10)) - 1)) r89) fun r106 => some (r106)))) fun r96 => some r96
set_option maxRecDepth 20000 in
set_option maxHeartbeats 4000000 in
theorem ll_X21_checkText_10 {l : Launch} {E : hc_E} {A : Nat → Prop} {am : Nat → Nat → Nat} {d : Nat} {X : hc_X} (n : Nat) (k0 : Nat) (hD : 3 * k0 + 19 ≤ d) (hem : X.2.2.2.2.2.2.2.2.2.1.exceptionTable.isEmpty = true) {oc : hc_Oc} {σe : hc_St} (hC : hc_C hc_V0 E cX21_checkText 3 RX21 none d oc σe (l, A, am, []) X) : ∀ (m : Nat) (σ : hc_St) (y1 : Int32) (rl : hc_St) (am1 : Nat → Nat → Nat), lp_X21_checkText_10 n k0 m y1 σ = some rl → (hc_At hc_V0 E 3 X 55 [(0, .ref (E.2.1 23))] [] rl am1 []) → hc_At hc_V0 E 3 X 10 [(0, .ref (E.2.1 23)), (1, .int y1)] [] σ am1 [] := by
  have hd1 : 1 ≤ d := by omega
  have hd8 : 9 ≤ d := by omega
  have hd12 : 12 ≤ d := by omega
  intro m
  induction m with
  | zero =>
    intro σ y1 rl am1 h
    cases h
  | succ m ih =>
    intro σ y1 rl am1 h JX
    rw [lp_X21_checkText_10] at h
    refine hr_iload_n hC dX21_checkText_10 rfl ?_
    refine hr_if_lt (x := _) hC 55 dX21_checkText_11 (by decide) (fun c3 => ?_) (fun c3 => ?_)
    · rw [if_pos c3] at h
      obtain rfl := Option.some.inj h
      exact hr_sub _ rfl (JX)
    · rw [if_neg c3] at h
      refine hr_aload_n hC dX21_checkText_14 rfl ?_
      refine hr_gA hC F23_18 rfl dX21_checkText_15 q2860 ?_
      refine hr_iload_n hC dX21_checkText_18 rfl ?_
      obtain ⟨c4, h⟩ := hk_ok h
      refine hs_bald hC A23_18 c4 dX21_checkText_19 ?_
      refine hr_bipush (v := 41) hC dX21_checkText_20 rfl ?_
      obtain ⟨r7, e8, h⟩ := hx_bind h
      have J9 : hc_At hc_V0 E 3 X 45 [(0, .ref (E.2.1 23)), (1, .int y1)] [] r7 am1 [] := by
        refine hr_aload_n hC dX21_checkText_45 rfl ?_
        refine hr_gA hC F23_25 rfl dX21_checkText_46 q2867 ?_
        refine hr_iload_n hC dX21_checkText_49 rfl ?_
        obtain ⟨c14, h⟩ := hk_ok h
        refine hs_iald hC A23_25 c14 dX21_checkText_50 ?_
        refine hr_istore_n hC dX21_checkText_51 (by decide) ?_
        refine hr_goto hC 10 dX21_checkText_52 (by decide) ?_
        exact hr_sub _ rfl (ih _ _ _ am1 h JX)
      clear h
      have h := e8
      refine hr_icmp_ne (x := _) hC 45 dX21_checkText_22 (by decide) (fun c6 => ?_) (fun c6 => ?_)
      · rw [if_neg c6] at h
        obtain rfl := Option.some.inj h
        exact hr_sub _ rfl (J9)
      · rw [if_pos c6] at h
        refine hr_aload_n hC dX21_checkText_25 rfl ?_
        refine hr_gA hC F23_44 rfl dX21_checkText_26 q2885 ?_
        refine hr_aload_n hC dX21_checkText_29 rfl ?_
        refine hr_gI hC F23_43 dX21_checkText_30 q2884 ?_
        refine hr_iload_n hC dX21_checkText_33 rfl ?_
        obtain ⟨c11, h⟩ := hk_ok h
        obtain ⟨σ12, hσ12, h⟩ := hl_ok h
        refine hs_iast hC A23_44 c11 dX21_checkText_34 ?_
        rw [← hσ12]
        refine hr_aload_n hC dX21_checkText_35 rfl ?_
        refine hr_dup hC dX21_checkText_36 rfl ?_
        refine hr_gI hC F23_43 dX21_checkText_37 q2884 ?_
        refine hr_iconst (v := 1) hC dX21_checkText_40 rfl ?_
        refine hr_iadd hC dX21_checkText_41 ?_
        obtain ⟨σ13, hσ13, h⟩ := hl_ok h
        refine hr_pI hC F23_43 PX21_43 dX21_checkText_42 q2884 ?_
        rw [← hσ13]
        obtain rfl := Option.some.inj h
        exact hr_sub _ rfl (J9)
set_option maxRecDepth 20000 in
set_option maxHeartbeats 4000000 in
theorem ll_X21_checkText_102 {l : Launch} {E : hc_E} {A : Nat → Prop} {am : Nat → Nat → Nat} {d : Nat} {X : hc_X} (n : Nat) (k0 : Nat) (hD : 3 * k0 + 19 ≤ d) (hem : X.2.2.2.2.2.2.2.2.2.1.exceptionTable.isEmpty = true) {oc : hc_Oc} {σe : hc_St} (hC : hc_C hc_V0 E cX21_checkText 3 RX21 none d oc σe (l, A, am, []) X) : ∀ (m : Nat) (σ : hc_St) (y1 : Int32) (y2 : Int32) (rl : hc_St) (am1 : Nat → Nat → Nat), lp_X21_checkText_102 n k0 m y1 y2 σ = some rl → (hc_At hc_V0 E 3 X 197 [(0, .ref (E.2.1 23))] [] rl am1 []) → hc_At hc_V0 E 3 X 102 [(0, .ref (E.2.1 23)), (1, .int y1), (2, .int y2)] [] σ am1 [] := by
  have hd1 : 1 ≤ d := by omega
  have hd8 : 9 ≤ d := by omega
  have hd12 : 12 ≤ d := by omega
  intro m
  induction m with
  | zero =>
    intro σ y1 y2 rl am1 h
    cases h
  | succ m ih =>
    intro σ y1 y2 rl am1 h JX
    rw [lp_X21_checkText_102] at h
    refine hr_iload_n hC dX21_checkText_102 rfl ?_
    refine hr_if_lt (x := _) hC 197 dX21_checkText_103 (by decide) (fun c29 => ?_) (fun c29 => ?_)
    · rw [if_pos c29] at h
      obtain rfl := Option.some.inj h
      exact hr_sub _ rfl (JX)
    · rw [if_neg c29] at h
      refine hr_aload_n hC dX21_checkText_106 rfl ?_
      refine hr_gA hC F23_18 rfl dX21_checkText_107 q2860 ?_
      refine hr_iload_n hC dX21_checkText_110 rfl ?_
      obtain ⟨c30, h⟩ := hk_ok h
      refine hs_bald hC A23_18 c30 dX21_checkText_111 ?_
      refine hr_bipush (v := 41) hC dX21_checkText_112 rfl ?_
      obtain ⟨r33, e34, h⟩ := hx_bind h
      have J35 : hc_At hc_V0 E 3 X 187 [(0, .ref (E.2.1 23)), (1, .int r33.2), (2, .int y2)] [] r33.1 am1 [] := by
        refine hr_aload_n hC dX21_checkText_187 rfl ?_
        refine hr_gA hC F23_25 rfl dX21_checkText_188 q2867 ?_
        refine hr_iload_n hC dX21_checkText_191 rfl ?_
        obtain ⟨c56, h⟩ := hk_ok h
        refine hs_iald hC A23_25 c56 dX21_checkText_192 ?_
        refine hr_istore_n hC dX21_checkText_193 (by decide) ?_
        refine hr_goto hC 102 dX21_checkText_194 (by decide) ?_
        exact hr_sub _ rfl (ih _ _ _ _ am1 h JX)
      clear h
      have h := e34
      refine hr_icmp_ne (x := _) hC 128 dX21_checkText_114 (by decide) (fun c32 => ?_) (fun c32 => ?_)
      · rw [if_neg c32] at h
        refine hr_aload_n hC dX21_checkText_128 rfl ?_
        refine hr_gA hC F23_18 rfl dX21_checkText_129 q2860 ?_
        refine hr_iload_n hC dX21_checkText_132 rfl ?_
        obtain ⟨c37, h⟩ := hk_ok h
        refine hs_bald hC A23_18 c37 dX21_checkText_133 ?_
        refine hr_bipush (v := 43) hC dX21_checkText_134 rfl ?_
        refine hr_icmp_ne (x := _) hC 147 dX21_checkText_136 (by decide) (fun c39 => ?_) (fun c39 => ?_)
        · rw [if_neg c39] at h
          refine hr_aload_n hC dX21_checkText_147 rfl ?_
          refine hr_iconst (v := 0) hC dX21_checkText_148 rfl ?_
          obtain ⟨σ40, hσ40, h⟩ := hl_ok h
          refine hr_pI hC F23_47 PX21_47 dX21_checkText_149 q2888 ?_
          rw [← hσ40]
          refine hr_aload_n hC dX21_checkText_152 rfl ?_
          refine hr_aload_n hC dX21_checkText_153 rfl ?_
          refine hr_gI hC F23_60 dX21_checkText_154 q2901 ?_
          obtain ⟨σ41, hσ41, h⟩ := hl_ok h
          refine hr_pI hC F23_59 PX21_59 dX21_checkText_157 q2900 ?_
          rw [← hσ41]
          refine hr_aload_n hC dX21_checkText_160 rfl ?_
          refine hr_iload_n hC dX21_checkText_161 rfl ?_
          refine hr_iconst (v := 1) hC dX21_checkText_162 rfl ?_
          obtain ⟨r42, e43, h⟩ := hx_bind h
          refine hs_callV0 hC 23 [_, _] _ dX21_checkText_163 q3494 q3496 qs260 q335 q3497 np_X21 rfl OB_23 pd_X21_declare (Nat.le_of_ble_eq_true rfl) hd1 (okX21_declare l E A (d - 1) n k0 (by omega)  e43 am1) rfl ?_
          refine hr_aload_n hC dX21_checkText_166 rfl ?_
          refine hr_aload_n hC dX21_checkText_167 rfl ?_
          refine hr_gI hC F23_59 dX21_checkText_168 q2900 ?_
          obtain ⟨σ46, hσ46, h⟩ := hl_ok h
          refine hr_pI hC F23_60 PX21_60 dX21_checkText_171 q2901 ?_
          rw [← hσ46]
          refine hr_aload_n hC dX21_checkText_174 rfl ?_
          refine hr_aload_n hC dX21_checkText_175 rfl ?_
          refine hr_gI hC F23_46 dX21_checkText_176 q2887 ?_
          refine hr_aload_n hC dX21_checkText_179 rfl ?_
          refine hr_gI hC F23_47 dX21_checkText_180 q2888 ?_
          refine hr_iadd hC dX21_checkText_183 ?_
          obtain ⟨σ47, hσ47, h⟩ := hl_ok h
          refine hr_pI hC F23_46 PX21_46 dX21_checkText_184 q2887 ?_
          rw [← hσ47]
          obtain rfl := Option.some.inj h
          exact hr_sub _ rfl (J35)
        · rw [if_pos c39] at h
          refine hr_aload_n hC dX21_checkText_139 rfl ?_
          refine hr_iload_n hC dX21_checkText_140 rfl ?_
          obtain ⟨r48, e49, h⟩ := hx_bind h
          refine hs_callV0 hC 23 [_] _ dX21_checkText_141 q3534 q3536 qs270 q335 q3537 np_X21 rfl OB_23 pd_X21_checkEnum (Nat.le_of_ble_eq_true rfl) hd1 (okX21_checkEnum l E A (d - 1) n k0 (by omega)  e49 am1) rfl ?_
          refine hr_goto hC 187 dX21_checkText_144 (by decide) ?_
          obtain rfl := Option.some.inj h
          exact hr_sub _ rfl (J35)
      · rw [if_pos c32] at h
        refine hr_aload_n hC dX21_checkText_117 rfl ?_
        refine hr_iload_n hC dX21_checkText_118 rfl ?_
        obtain ⟨r52, e53, h⟩ := hx_bind h
        refine hs_callV0 hC 23 [_] _ dX21_checkText_119 q3378 q3380 qs231 q335 q3381 np_X21 rfl OB_23 pd_X21_checkFunction (Nat.le_of_ble_eq_true rfl) hd1 (okX21_checkFunction l E A (d - 1) n k0 (by omega)  e53 am1) rfl ?_
        refine hr_iinc (v := y1 + 1) hC dX21_checkText_122 rfl rfl (by decide) ?_
        refine hr_goto hC 187 dX21_checkText_125 (by decide) ?_
        obtain rfl := Option.some.inj h
        exact hr_sub _ rfl (J35)
set_option maxRecDepth 20000 in
set_option maxHeartbeats 4000000 in
theorem ll_X21_checkText_218 {l : Launch} {E : hc_E} {A : Nat → Prop} {am : Nat → Nat → Nat} {d : Nat} {X : hc_X} (n : Nat) (k0 : Nat) (hD : 3 * k0 + 19 ≤ d) (hem : X.2.2.2.2.2.2.2.2.2.1.exceptionTable.isEmpty = true) {oc : hc_Oc} {σe : hc_St} (hC : hc_C hc_V0 E cX21_checkText 3 RX21 none d oc σe (l, A, am, []) X) : ∀ (m : Nat) (σ : hc_St) (y2 : Int32) (rl : hc_St) (am1 : Nat → Nat → Nat), lp_X21_checkText_218 n k0 m y2 σ = some rl → (hc_At hc_V0 E 3 X 256 [(0, .ref (E.2.1 23))] [] rl am1 []) → hc_At hc_V0 E 3 X 218 [(0, .ref (E.2.1 23)), (2, .int y2)] [] σ am1 [] := by
  have hd1 : 1 ≤ d := by omega
  have hd8 : 9 ≤ d := by omega
  have hd12 : 12 ≤ d := by omega
  intro m
  induction m with
  | zero =>
    intro σ y2 rl am1 h
    cases h
  | succ m ih =>
    intro σ y2 rl am1 h JX
    rw [lp_X21_checkText_218] at h
    refine hr_iload_n hC dX21_checkText_218 rfl ?_
    refine hr_aload_n hC dX21_checkText_219 rfl ?_
    refine hr_gI hC F23_43 dX21_checkText_220 q2884 ?_
    refine hr_icmp_ge (x := _) hC 256 dX21_checkText_223 (by decide) (fun c77 => ?_) (fun c77 => ?_)
    · rw [if_pos c77] at h
      obtain rfl := Option.some.inj h
      exact hr_sub _ rfl (JX)
    · rw [if_neg c77] at h
      refine hr_aload_n hC dX21_checkText_226 rfl ?_
      refine hr_gA hC F23_45 rfl dX21_checkText_227 q2886 ?_
      refine hr_iload_n hC dX21_checkText_230 rfl ?_
      obtain ⟨c78, h⟩ := hk_ok h
      refine hs_iald hC A23_45 c78 dX21_checkText_231 ?_
      refine hr_sipush (v := 8192) hC dX21_checkText_232 rfl ?_
      obtain ⟨r81, e82, h⟩ := hx_bind h
      have J83 : hc_At hc_V0 E 3 X 250 [(0, .ref (E.2.1 23)), (2, .int y2)] [] r81 am1 [] := by
        refine hr_iinc (v := y2 + 1) hC dX21_checkText_250 rfl rfl (by decide) ?_
        refine hr_goto hC 218 dX21_checkText_253 (by decide) ?_
        exact hr_sub _ rfl (ih _ _ _ am1 h JX)
      clear h
      have h := e82
      refine hr_icmp_le (x := _) hC 250 dX21_checkText_235 (by decide) (fun c80 => ?_) (fun c80 => ?_)
      · rw [if_pos c80] at h
        obtain rfl := Option.some.inj h
        exact hr_sub _ rfl (J83)
      · rw [if_neg c80] at h
        refine hr_aload_n hC dX21_checkText_238 rfl ?_
        refine hr_bipush (v := 13) hC dX21_checkText_239 rfl ?_
        refine hr_aload_n hC dX21_checkText_241 rfl ?_
        refine hr_gI hC F23_10 dX21_checkText_242 q2852 ?_
        refine hr_iconst (v := 1) hC dX21_checkText_245 rfl ?_
        refine hr_isub hC dX21_checkText_246 ?_
        obtain ⟨r85, e86, h⟩ := hx_bind h
        refine hs_callV0 hC 23 [_, _] _ dX21_checkText_247 q3398 q3400 qs236 q335 q3401 np_X21 rfl OB_23 pd_X21_bad (Nat.le_of_ble_eq_true rfl) hd1 (okX21_bad l E A (d - 1)  (by omega)  e86 am1) rfl ?_
        obtain rfl := Option.some.inj h
        exact hr_sub _ rfl (J83)
set_option maxRecDepth 20000 in
set_option maxHeartbeats 4000000 in
theorem okX21_checkText (l : Launch) (E : hc_E) (A : Nat → Prop) (d : Nat) (n : Nat) (k0 : Nat) (hD : 3 * k0 + 19 ≤ d)  {σ : hc_St} {r : hc_St} (h : fm_X21_checkText n k0  σ = some r) (am : Nat → Nat → Nat) : hc_M l hc_V0 yX21_checkText (ws_ yX21_checkText cX21_checkText 3 none) d E A [.ref (E.2.1 23)] am [] σ (.inl none) r := by
  have hd1 : 1 ≤ d := by omega
  have hd8 : 9 ≤ d := by omega
  have hd12 : 12 ≤ d := by omega
  refine hc_enter2 (own := RX21) [(0, .ref (E.2.1 23))] pl_X21 rfl hc_V0_st hc_G0_nd rfl (Nat.le_of_ble_eq_true rfl) (fun X hC hem => ?_)
  unfold fm_X21_checkText at h
  refine hr_aload_n hC dX21_checkText_0 rfl ?_
  refine hr_iconst (v := 0) hC dX21_checkText_1 rfl ?_
  obtain ⟨σ1, hσ1, h⟩ := hl_ok h
  refine hr_pI hC F23_43 PX21_43 dX21_checkText_2 q2884 ?_
  rw [← hσ1]
  refine hr_aload_n hC dX21_checkText_5 rfl ?_
  refine hr_gI hC F23_28 dX21_checkText_6 q2870 ?_
  refine hr_istore_n hC dX21_checkText_9 (by decide) ?_
  obtain ⟨r15, e16, h⟩ := hx_bind h
  refine hr_sub _ rfl (ll_X21_checkText_10 n k0 hD hem hC n _ _ _ am e16 ?_)
  refine hr_aload_n hC dX21_checkText_55 rfl ?_
  refine hr_iconst (v := 0) hC dX21_checkText_56 rfl ?_
  obtain ⟨σ20, hσ20, h⟩ := hl_ok h
  refine hr_pI hC F23_38 PX21_38 dX21_checkText_57 q2879 ?_
  rw [← hσ20]
  refine hr_aload_n hC dX21_checkText_60 rfl ?_
  refine hr_iconst (v := 0) hC dX21_checkText_61 rfl ?_
  obtain ⟨σ21, hσ21, h⟩ := hl_ok h
  refine hr_pI hC F23_42 PX21_42 dX21_checkText_62 q2883 ?_
  rw [← hσ21]
  refine hr_aload_n hC dX21_checkText_65 rfl ?_
  refine hr_iconst (v := 0) hC dX21_checkText_66 rfl ?_
  obtain ⟨σ22, hσ22, h⟩ := hl_ok h
  refine hr_pI hC F23_49 PX21_49 dX21_checkText_67 q2890 ?_
  rw [← hσ22]
  refine hr_aload_n hC dX21_checkText_70 rfl ?_
  refine hr_iconst (v := 0) hC dX21_checkText_71 rfl ?_
  obtain ⟨σ23, hσ23, h⟩ := hl_ok h
  refine hr_pI hC F23_50 PX21_50 dX21_checkText_72 q2891 ?_
  rw [← hσ23]
  refine hr_aload_n hC dX21_checkText_75 rfl ?_
  refine hr_iconst (v := (-1)) hC dX21_checkText_76 rfl ?_
  obtain ⟨σ24, hσ24, h⟩ := hl_ok h
  refine hr_pI hC F23_48 PX21_48 dX21_checkText_77 q2889 ?_
  rw [← hσ24]
  refine hr_iconst (v := 0) hC dX21_checkText_80 rfl ?_
  refine hr_istore_n hC dX21_checkText_81 (by decide) ?_
  refine hr_aload_n hC dX21_checkText_82 rfl ?_
  refine hr_iconst (v := 0) hC dX21_checkText_83 rfl ?_
  obtain ⟨σ25, hσ25, h⟩ := hl_ok h
  refine hr_pI hC F23_53 PX21_53 dX21_checkText_84 q2894 ?_
  rw [← hσ25]
  refine hr_aload_n hC dX21_checkText_87 rfl ?_
  refine hr_iconst (v := 0) hC dX21_checkText_88 rfl ?_
  obtain ⟨σ26, hσ26, h⟩ := hl_ok h
  refine hr_pI hC F23_60 PX21_60 dX21_checkText_89 q2901 ?_
  rw [← hσ26]
  refine hr_aload_n hC dX21_checkText_92 rfl ?_
  refine hr_iconst (v := 0) hC dX21_checkText_93 rfl ?_
  obtain ⟨σ27, hσ27, h⟩ := hl_ok h
  refine hr_pI hC F23_46 PX21_46 dX21_checkText_94 q2887 ?_
  rw [← hσ27]
  refine hr_aload_n hC dX21_checkText_97 rfl ?_
  refine hr_gI hC F23_28 dX21_checkText_98 q2870 ?_
  refine hr_istore_n hC dX21_checkText_101 (by decide) ?_
  obtain ⟨r57, e58, h⟩ := hx_bind h
  refine hr_sub _ rfl (ll_X21_checkText_102 n k0 hD hem hC n _ _ _ _ am e58 ?_)
  refine hr_aload_n hC dX21_checkText_197 rfl ?_
  obtain ⟨r62, e63, h⟩ := hx_bind h
  refine hs_callV0 hC 23 [] _ dX21_checkText_198 q3538 q3540 qs271 q335 q3541 np_X21 rfl OB_23 pd_X21_hasMain (Nat.le_of_ble_eq_true rfl) hd1 (okX21_hasMain l E A (d - 1) n (by omega)  e63 am) rfl ?_
  obtain ⟨r68, e69, h⟩ := hx_bind h
  have J70 : hc_At hc_V0 E 3 X 216 [(0, .ref (E.2.1 23))] [] r68 am [] := by
    refine hr_iconst (v := 0) hC dX21_checkText_216 rfl ?_
    refine hr_istore_n hC dX21_checkText_217 (by decide) ?_
    obtain ⟨r89, e90, h⟩ := hx_bind h
    refine hr_sub _ rfl (ll_X21_checkText_218 n k0 hD hem hC n _ _ _ am e90 ?_)
    refine hr_aload_n hC dX21_checkText_256 rfl ?_
    refine hr_gI hC F23_43 dX21_checkText_257 q2884 ?_
    refine hr_sipush (v := 200) hC dX21_checkText_260 rfl ?_
    obtain ⟨r96, e97, h⟩ := hx_bind h
    have J98 : hc_At hc_V0 E 3 X 288 [] [] r96 am [] := by
      obtain rfl := Option.some.inj h
      exact hr_vret hC dX21_checkText_288
    clear h
    have h := e97
    refine hr_icmp_gt (x := _) hC 276 dX21_checkText_263 (by decide) (fun c95 => ?_) (fun c95 => ?_)
    · rw [if_pos c95] at h
      refine hr_aload_n hC dX21_checkText_276 rfl ?_
      refine hr_bipush (v := 14) hC dX21_checkText_277 rfl ?_
      refine hr_aload_n hC dX21_checkText_279 rfl ?_
      refine hr_gI hC F23_10 dX21_checkText_280 q2852 ?_
      refine hr_iconst (v := 1) hC dX21_checkText_283 rfl ?_
      refine hr_isub hC dX21_checkText_284 ?_
      obtain ⟨r100, e101, h⟩ := hx_bind h
      refine hs_callV0 hC 23 [_, _] _ dX21_checkText_285 q3398 q3400 qs236 q335 q3401 np_X21 rfl OB_23 pd_X21_bad (Nat.le_of_ble_eq_true rfl) hd1 (okX21_bad l E A (d - 1)  (by omega)  e101 am) rfl ?_
      obtain rfl := Option.some.inj h
      exact hr_sub _ rfl (J98)
    · rw [if_neg c95] at h
      refine hr_aload_n hC dX21_checkText_266 rfl ?_
      refine hr_gI hC F23_46 dX21_checkText_267 q2887 ?_
      refine hr_sipush (v := 8192) hC dX21_checkText_270 rfl ?_
      refine hr_icmp_le (x := _) hC 288 dX21_checkText_273 (by decide) (fun c105 => ?_) (fun c105 => ?_)
      · rw [if_pos c105] at h
        obtain rfl := Option.some.inj h
        exact hr_sub _ rfl (J98)
      · rw [if_neg c105] at h
        refine hr_aload_n hC dX21_checkText_276 rfl ?_
        refine hr_bipush (v := 14) hC dX21_checkText_277 rfl ?_
        refine hr_aload_n hC dX21_checkText_279 rfl ?_
        refine hr_gI hC F23_10 dX21_checkText_280 q2852 ?_
        refine hr_iconst (v := 1) hC dX21_checkText_283 rfl ?_
        refine hr_isub hC dX21_checkText_284 ?_
        obtain ⟨r106, e107, h⟩ := hx_bind h
        refine hs_callV0 hC 23 [_, _] _ dX21_checkText_285 q3398 q3400 qs236 q335 q3401 np_X21 rfl OB_23 pd_X21_bad (Nat.le_of_ble_eq_true rfl) hd1 (okX21_bad l E A (d - 1)  (by omega)  e107 am) rfl ?_
        obtain rfl := Option.some.inj h
        exact hr_sub _ rfl (J98)
  clear h
  have h := e69
  refine hr_if_ne (x := _) hC 216 dX21_checkText_201 (by decide) (fun c67 => ?_) (fun c67 => ?_)
  · rw [if_neg c67] at h
    obtain rfl := Option.some.inj h
    exact hr_sub _ rfl (J70)
  · rw [if_pos c67] at h
    refine hr_aload_n hC dX21_checkText_204 rfl ?_
    refine hr_bipush (v := 12) hC dX21_checkText_205 rfl ?_
    refine hr_aload_n hC dX21_checkText_207 rfl ?_
    refine hr_gI hC F23_10 dX21_checkText_208 q2852 ?_
    refine hr_iconst (v := 1) hC dX21_checkText_211 rfl ?_
    refine hr_isub hC dX21_checkText_212 ?_
    obtain ⟨r72, e73, h⟩ := hx_bind h
    refine hs_callV0 hC 23 [_, _] _ dX21_checkText_213 q3398 q3400 qs236 q335 q3401 np_X21 rfl OB_23 pd_X21_bad (Nat.le_of_ble_eq_true rfl) hd1 (okX21_bad l E A (d - 1)  (by omega)  e73 am) rfl ?_
    obtain rfl := Option.some.inj h
    exact hr_sub _ rfl (J70)
/-- HomeCompilerModel.place()I -/
def fm_X21_place   (σ : hc_St) : Option (Int32 × hc_St) := hl (pI σ 23 4 0) fun σ1 => some ((gI σ1 23 37), σ1)
set_option maxRecDepth 20000 in
set_option maxHeartbeats 4000000 in
theorem okX21_place (l : Launch) (E : hc_E) (A : Nat → Prop) (d : Nat)  (hD : 1 ≤ d)  {σ : hc_St} {r : (Int32 × hc_St)} (h : fm_X21_place   σ = some r) (am : Nat → Nat → Nat) : hc_M l hc_V0 yX21_place (ws_ yX21_place cX21_place 1 (some .int)) d E A [.ref (E.2.1 23)] am [] σ (.inl (some (.int r.1))) r.2 := by
  have hd1 : 1 ≤ d := by omega
  refine hc_enter2 (own := RX21) [(0, .ref (E.2.1 23))] pl_X21 rfl hc_V0_st hc_G0_nd rfl (Nat.le_of_ble_eq_true rfl) (fun X hC hem => ?_)
  unfold fm_X21_place at h
  refine hr_aload_n hC dX21_place_0 rfl ?_
  refine hr_iconst (v := 0) hC dX21_place_1 rfl ?_
  obtain ⟨σ1, hσ1, h⟩ := hl_ok h
  refine hr_pI hC F23_4 PX21_4 dX21_place_2 q2846 ?_
  rw [← hσ1]
  refine hr_aload_n hC dX21_place_5 rfl ?_
  refine hr_gI hC F23_37 dX21_place_6 q2878 ?_
  obtain rfl := Option.some.inj h
  exact hr_iret hC dX21_place_9
/-- HomeCompilerModel.cellOf(I)I -/
def fm_X21_cellOf  (x1 : Int32) (σ : hc_St) : Option Int32 := hk (inb x1 (gL σ 23 55)) <| Option.bind (α := Int32) (if (vp_nar .boolean (gC σ 23 55 x1)) = 0 then (hk (inb x1 (gL σ 23 56)) <| some ((((gI σ 23 67)) + ((gC σ 23 56 x1))))) else (hk (inb x1 (gL σ 23 56)) <| some ((gC σ 23 56 x1)))) fun r4 => some r4
set_option maxRecDepth 20000 in
set_option maxHeartbeats 4000000 in
theorem okX21_cellOf (l : Launch) (E : hc_E) (A : Nat → Prop) (d : Nat)  (hD : 1 ≤ d) {x1 : Int32} {σ : hc_St} {r : Int32} (h : fm_X21_cellOf  x1 σ = some r) (am : Nat → Nat → Nat) : hc_M l hc_V0 yX21_cellOf (ws_ yX21_cellOf cX21_cellOf 2 (some .int)) d E A [.ref (E.2.1 23), .int x1] am [] σ (.inl (some (.int r))) σ := by
  have hd1 : 1 ≤ d := by omega
  refine hc_enter2 (own := RX21) [(0, .ref (E.2.1 23)), (1, .int x1)] pl_X21 rfl hc_V0_st hc_G0_nd rfl (Nat.le_of_ble_eq_true rfl) (fun X hC hem => ?_)
  unfold fm_X21_cellOf at h
  refine hr_aload_n hC dX21_cellOf_0 rfl ?_
  refine hr_gA hC F23_55 rfl dX21_cellOf_1 q2896 ?_
  refine hr_iload_n hC dX21_cellOf_4 rfl ?_
  obtain ⟨c1, h⟩ := hk_ok h
  refine hs_zald hC A23_55 c1 dX21_cellOf_5 ?_
  obtain ⟨r4, e5, h⟩ := hx_bind h
  have J6 : hc_At hc_V0 E 2 X 29 [] [.int r4] σ am [] := by
    obtain rfl := Option.some.inj h
    exact hr_iret hC dX21_cellOf_29
  clear h
  have h := e5
  refine hr_if_eq (x := _) hC 18 dX21_cellOf_6 (by decide) (fun c3 => ?_) (fun c3 => ?_)
  · rw [if_pos c3] at h
    refine hr_aload_n hC dX21_cellOf_18 rfl ?_
    refine hr_gI hC F23_67 dX21_cellOf_19 q2908 ?_
    refine hr_aload_n hC dX21_cellOf_22 rfl ?_
    refine hr_gA hC F23_56 rfl dX21_cellOf_23 q2897 ?_
    refine hr_iload_n hC dX21_cellOf_26 rfl ?_
    obtain ⟨c8, h⟩ := hk_ok h
    refine hs_iald hC A23_56 c8 dX21_cellOf_27 ?_
    refine hr_iadd hC dX21_cellOf_28 ?_
    obtain rfl := Option.some.inj h
    exact hr_sub _ rfl (J6)
  · rw [if_neg c3] at h
    refine hr_aload_n hC dX21_cellOf_9 rfl ?_
    refine hr_gA hC F23_56 rfl dX21_cellOf_10 q2897 ?_
    refine hr_iload_n hC dX21_cellOf_13 rfl ?_
    obtain ⟨c9, h⟩ := hk_ok h
    refine hs_iald hC A23_56 c9 dX21_cellOf_14 ?_
    refine hr_goto hC 29 dX21_cellOf_15 (by decide) ?_
    obtain rfl := Option.some.inj h
    exact hr_sub _ rfl (J6)
/-- HomeCompilerModel.isOfChar(I)Z -/
def fm_X21_isOfChar  (x1 : Int32) (σ : hc_St) : Option Int32 := hk (inb x1 (gL σ 23 54)) <| hl (α := Int32) ((if (gC σ 23 54 x1).toInt8.toInt32 = 1 then 1 else (if (gC σ 23 54 x1).toInt8.toInt32 = 3 then 1 else (if (gC σ 23 54 x1).toInt8.toInt32 = 5 then 1 else 0)))) fun v4 => hk (hb01 v4) <| some v4
set_option maxRecDepth 20000 in
set_option maxHeartbeats 4000000 in
theorem okX21_isOfChar (l : Launch) (E : hc_E) (A : Nat → Prop) (d : Nat)  (hD : 1 ≤ d) {x1 : Int32} {σ : hc_St} {r : Int32} (h : fm_X21_isOfChar  x1 σ = some r) (am : Nat → Nat → Nat) : hc_M l hc_V0 yX21_isOfChar (ws_ yX21_isOfChar cX21_isOfChar 3 (some .boolean)) d E A [.ref (E.2.1 23), .int x1] am [] σ (.inl (some (.int r))) σ := by
  have hd1 : 1 ≤ d := by omega
  refine hc_enter2 (own := RX21) [(0, .ref (E.2.1 23)), (1, .int x1)] pl_X21 rfl hc_V0_st hc_G0_nd rfl (Nat.le_of_ble_eq_true rfl) (fun X hC hem => ?_)
  unfold fm_X21_isOfChar at h
  refine hr_aload_n hC dX21_isOfChar_0 rfl ?_
  refine hr_gA hC F23_54 rfl dX21_isOfChar_1 q2895 ?_
  refine hr_iload_n hC dX21_isOfChar_4 rfl ?_
  obtain ⟨c1, h⟩ := hk_ok h
  refine hs_bald hC A23_54 c1 dX21_isOfChar_5 ?_
  refine hr_istore_n hC dX21_isOfChar_6 (by decide) ?_
  refine hr_iload_n hC dX21_isOfChar_7 rfl ?_
  refine hr_iconst (v := 1) hC dX21_isOfChar_8 rfl ?_
  obtain ⟨v4, hv4, h⟩ := hl_ok h
  have J6 : ∀ w7 : Int32, (if (gC σ 23 54 x1).toInt8.toInt32 = 1 then 1 else (if (gC σ 23 54 x1).toInt8.toInt32 = 3 then 1 else (if (gC σ 23 54 x1).toInt8.toInt32 = 5 then 1 else 0))) = w7 → hc_At hc_V0 E 3 X 27 [] [.int w7] σ am [] := by
    intro w7 hw7
    obtain rfl := hv4.trans hw7
    obtain ⟨c5, h⟩ := hk_ok h
    obtain rfl := Option.some.inj h
    exact hr_zret hC (hb01_n c5) dX21_isOfChar_27
  refine hr_icmp_eq (x := _) hC 22 dX21_isOfChar_9 (by decide) (fun c8 => ?_) (fun c8 => ?_)
  · refine hr_iconst (v := 1) hC dX21_isOfChar_22 rfl ?_
    refine hr_goto hC 27 dX21_isOfChar_23 (by decide) ?_
    exact hr_sub _ rfl (J6 _ (by first | (rw [if_pos c8]; done) | (simp only [if_pos c8]; done) | rfl))
  · refine hr_iload_n hC dX21_isOfChar_12 rfl ?_
    refine hr_iconst (v := 3) hC dX21_isOfChar_13 rfl ?_
    refine hr_icmp_eq (x := _) hC 22 dX21_isOfChar_14 (by decide) (fun c9 => ?_) (fun c9 => ?_)
    · refine hr_iconst (v := 1) hC dX21_isOfChar_22 rfl ?_
      refine hr_goto hC 27 dX21_isOfChar_23 (by decide) ?_
      exact hr_sub _ rfl (J6 _ (by first | (rw [if_neg c8, if_pos c9]; done) | (simp only [if_neg c8, if_pos c9]; done) | rfl))
    · refine hr_iload_n hC dX21_isOfChar_17 rfl ?_
      refine hr_iconst (v := 5) hC dX21_isOfChar_18 rfl ?_
      refine hr_icmp_ne (x := _) hC 26 dX21_isOfChar_19 (by decide) (fun c10 => ?_) (fun c10 => ?_)
      · refine hr_iconst (v := 0) hC dX21_isOfChar_26 rfl ?_
        exact hr_sub _ rfl (J6 _ (by first | (rw [if_neg c8, if_neg c9, if_neg c10]; done) | (simp only [if_neg c8, if_neg c9, if_neg c10]; done) | rfl))
      · refine hr_iconst (v := 1) hC dX21_isOfChar_22 rfl ?_
        refine hr_goto hC 27 dX21_isOfChar_23 (by decide) ?_
        exact hr_sub _ rfl (J6 _ (by first | (rw [if_neg c8, if_neg c9, if_pos c10]; done) | (simp only [if_neg c8, if_neg c9, if_pos c10]; done) | rfl))
/-- HomeCompilerModel.stored(II)I -/
def fm_X21_stored  (x1 : Int32) (x2 : Int32) (σ : hc_St) : Option Int32 := Option.bind (fm_X21_isOfChar x1 σ) fun r1 => hl (α := Int32) ((if r1 = 0 then x2 else (x2 &&& 255))) fun v7 => some v7
set_option maxRecDepth 20000 in
set_option maxHeartbeats 4000000 in
theorem okX21_stored (l : Launch) (E : hc_E) (A : Nat → Prop) (d : Nat)  (hD : 2 ≤ d) {x1 : Int32} {x2 : Int32} {σ : hc_St} {r : Int32} (h : fm_X21_stored  x1 x2 σ = some r) (am : Nat → Nat → Nat) : hc_M l hc_V0 yX21_stored (ws_ yX21_stored cX21_stored 3 (some .int)) d E A [.ref (E.2.1 23), .int x1, .int x2] am [] σ (.inl (some (.int r))) σ := by
  have hd1 : 1 ≤ d := by omega
  refine hc_enter2 (own := RX21) [(0, .ref (E.2.1 23)), (1, .int x1), (2, .int x2)] pl_X21 rfl hc_V0_st hc_G0_nd rfl (Nat.le_of_ble_eq_true rfl) (fun X hC hem => ?_)
  unfold fm_X21_stored at h
  refine hr_aload_n hC dX21_stored_0 rfl ?_
  refine hr_iload_n hC dX21_stored_1 rfl ?_
  obtain ⟨r1, e2, h⟩ := hx_bind h
  refine hs_callV0 hC 23 [_] _ dX21_stored_2 q3567 q3569 qs276 q335 q3570 np_X21 rfl OB_23 pd_X21_isOfChar (Nat.le_of_ble_eq_true rfl) hd1 (okX21_isOfChar l E A (d - 1)  (by omega)  e2 am) rfl ?_
  obtain ⟨v7, hv7, h⟩ := hl_ok h
  have J8 : ∀ w9 : Int32, (if r1 = 0 then x2 else (x2 &&& 255)) = w9 → hc_At hc_V0 E 3 X 17 [] [.int w9] σ am [] := by
    intro w9 hw9
    obtain rfl := hv7.trans hw9
    obtain rfl := Option.some.inj h
    exact hr_iret hC dX21_stored_17
  refine hr_if_eq (x := _) hC 16 dX21_stored_5 (by decide) (fun c10 => ?_) (fun c10 => ?_)
  · refine hr_iload_n hC dX21_stored_16 rfl ?_
    exact hr_sub _ rfl (J8 _ (by first | (rw [if_pos c10]; done) | (simp only [if_pos c10]; done) | rfl))
  · refine hr_iload_n hC dX21_stored_8 rfl ?_
    refine hr_sipush (v := 255) hC dX21_stored_9 rfl ?_
    refine hr_iand hC dX21_stored_12 ?_
    refine hr_goto hC 17 dX21_stored_13 (by decide) ?_
    exact hr_sub _ rfl (J8 _ (by first | (rw [if_neg c10]; done) | (simp only [if_neg c10]; done) | rfl))
def lp_X21_begin_16 (n : Nat) : Nat → Int32 → Int32 → Int32 → Int32 → hc_St → Option (hc_St)
  | 0, _, _, _, _, _ => none
  | m + 1, y1, y2, y3, y4, σ => hk (inb y2 (gL σ 23 57)) <| if (gC σ 23 57 y2) ≤ y4 then (some (σ)) else (hk (inb ((y3 + y4)) (gL σ 23 66)) <| hl (pC σ 23 66 ((y3 + y4)) 0) fun σ10 => lp_X21_begin_16 n m y1 y2 y3 ((y4 + 1)) σ10)
def lp_X21_begin_136 (n : Nat) : Nat → Int32 → Int32 → Int32 → Int32 → hc_St → Option (hc_St)
  | 0, _, _, _, _, _ => none
  | m + 1, y1, y3, y4, y5, σ => hk (inb y1 (gL σ 23 23)) <| hk (inb ((gC σ 23 23 y1)) (gL σ 23 14)) <| if (gC σ 23 14 ((gC σ 23 23 y1))) ≤ y5 then (some (σ)) else (Option.bind (fm_X21_character y4 34 σ) fun r32 => hk (inb ((y3 + y5)) (gL σ 23 66)) <| hl (pC σ 23 66 ((y3 + y5)) ((jrem r32 1000))) fun σ37 => hl (α := Int32) ((if 1000 ≤ r32 then 2 else 1)) fun v40 => lp_X21_begin_136 n m y1 y3 ((y4 + v40)) ((y5 + 1)) σ37)
def lp_X21_begin_64 (n : Nat) : Nat → Int32 → Int32 → Int32 → Int32 → hc_St → Option (hc_St)
  | 0, _, _, _, _, _ => none
  | m + 1, y2, y3, y4, y5, σ => if y5 < 0 then (some (σ)) else (hk (inb y5 (gL σ 23 24)) <| Option.bind (fm_X21_stored y2 ((gC σ 23 24 y5)) σ) fun r53 => hk (inb ((y3 + y4)) (gL σ 23 66)) <| hl (pC σ 23 66 ((y3 + y4)) r53) fun σ58 => hk (inb y5 (gL σ58 23 25)) <| lp_X21_begin_64 n m y2 y3 ((y4 + 1)) ((gC σ58 23 25 y5)) σ58)
/-- HomeCompilerModel.begin(I)V -/
def fm_X21_begin (n : Nat) (x1 : Int32) (σ : hc_St) : Option hc_St := hk (inb x1 (gL σ 23 24)) <| Option.bind (fm_X21_cellOf ((gC σ 23 24 x1)) σ) fun r2 => Option.bind (lp_X21_begin_16 n n x1 ((gC σ 23 24 x1)) r2 0 σ) fun r11 => hk (inb x1 (gL r11 23 26)) <| Option.bind (α := hc_St) (if (gC r11 23 26 x1) = 2 then (hk (inb x1 (gL r11 23 22)) <| Option.bind (lp_X21_begin_64 n n ((gC σ 23 24 x1)) r2 0 ((gC r11 23 22 x1)) r11) fun r60 => some (r60)) else (hk (inb x1 (gL r11 23 26)) <| if (gC r11 23 26 x1) = 3 then (hk (inb x1 (gL r11 23 23)) <| hk (inb ((gC r11 23 23 x1)) (gL r11 23 11)) <| Option.bind (lp_X21_begin_136 n n x1 r2 ((((gC r11 23 11 ((gC r11 23 23 x1)))) + 1)) 0 r11) fun r44 => some (r44)) else (some (r11)))) fun r19 => some r19
set_option maxRecDepth 20000 in
set_option maxHeartbeats 4000000 in
theorem ll_X21_begin_16 {l : Launch} {E : hc_E} {A : Nat → Prop} {am : Nat → Nat → Nat} {d : Nat} {X : hc_X} (n : Nat) (hD : 3 ≤ d) (hem : X.2.2.2.2.2.2.2.2.2.1.exceptionTable.isEmpty = true) {oc : hc_Oc} {σe : hc_St} (hC : hc_C hc_V0 E cX21_begin 7 RX21 none d oc σe (l, A, am, []) X) : ∀ (m : Nat) (σ : hc_St) (y1 : Int32) (y2 : Int32) (y3 : Int32) (y4 : Int32) (rl : hc_St) (am1 : Nat → Nat → Nat), lp_X21_begin_16 n m y1 y2 y3 y4 σ = some rl → (hc_At hc_V0 E 7 X 43 [(0, .ref (E.2.1 23)), (1, .int y1), (2, .int y2), (3, .int y3)] [] rl am1 []) → hc_At hc_V0 E 7 X 16 [(0, .ref (E.2.1 23)), (1, .int y1), (2, .int y2), (3, .int y3), (4, .int y4)] [] σ am1 [] := by
  have hd1 : 1 ≤ d := by omega
  intro m
  induction m with
  | zero =>
    intro σ y1 y2 y3 y4 rl am1 h
    cases h
  | succ m ih =>
    intro σ y1 y2 y3 y4 rl am1 h JX
    rw [lp_X21_begin_16] at h
    refine hr_iload hC dX21_begin_16 rfl ?_
    refine hr_aload_n hC dX21_begin_18 rfl ?_
    refine hr_gA hC F23_57 rfl dX21_begin_19 q2898 ?_
    refine hr_iload_n hC dX21_begin_22 rfl ?_
    obtain ⟨c6, h⟩ := hk_ok h
    refine hs_iald hC A23_57 c6 dX21_begin_23 ?_
    refine hr_icmp_ge (x := _) hC 43 dX21_begin_24 (by decide) (fun c8 => ?_) (fun c8 => ?_)
    · rw [if_pos c8] at h
      obtain rfl := Option.some.inj h
      exact hr_sub _ rfl (JX)
    · rw [if_neg c8] at h
      refine hr_aload_n hC dX21_begin_27 rfl ?_
      refine hr_gA hC F23_66 rfl dX21_begin_28 q2907 ?_
      refine hr_iload_n hC dX21_begin_31 rfl ?_
      refine hr_iload hC dX21_begin_32 rfl ?_
      refine hr_iadd hC dX21_begin_34 ?_
      refine hr_iconst (v := 0) hC dX21_begin_35 rfl ?_
      obtain ⟨c9, h⟩ := hk_ok h
      obtain ⟨σ10, hσ10, h⟩ := hl_ok h
      refine hs_iast hC A23_66 c9 dX21_begin_36 ?_
      rw [← hσ10]
      refine hr_iinc (v := y4 + 1) hC dX21_begin_37 rfl rfl (by decide) ?_
      refine hr_goto hC 16 dX21_begin_40 (by decide) ?_
      exact hr_sub _ rfl (ih _ _ _ _ _ _ am1 h JX)
set_option maxRecDepth 20000 in
set_option maxHeartbeats 4000000 in
theorem ll_X21_begin_136 {l : Launch} {E : hc_E} {A : Nat → Prop} {am : Nat → Nat → Nat} {d : Nat} {X : hc_X} (n : Nat) (hD : 3 ≤ d) (hem : X.2.2.2.2.2.2.2.2.2.1.exceptionTable.isEmpty = true) {oc : hc_Oc} {σe : hc_St} (hC : hc_C hc_V0 E cX21_begin 7 RX21 none d oc σe (l, A, am, []) X) : ∀ (m : Nat) (σ : hc_St) (y1 : Int32) (y3 : Int32) (y4 : Int32) (y5 : Int32) (rl : hc_St) (am1 : Nat → Nat → Nat), lp_X21_begin_136 n m y1 y3 y4 y5 σ = some rl → (hc_At hc_V0 E 7 X 201 [] [] rl am1 []) → hc_At hc_V0 E 7 X 136 [(0, .ref (E.2.1 23)), (1, .int y1), (3, .int y3), (4, .int y4), (5, .int y5)] [] σ am1 [] := by
  have hd1 : 1 ≤ d := by omega
  intro m
  induction m with
  | zero =>
    intro σ y1 y3 y4 y5 rl am1 h
    cases h
  | succ m ih =>
    intro σ y1 y3 y4 y5 rl am1 h JX
    rw [lp_X21_begin_136] at h
    refine hr_iload hC dX21_begin_136 rfl ?_
    refine hr_aload_n hC dX21_begin_138 rfl ?_
    refine hr_gA hC F23_14 rfl dX21_begin_139 q2856 ?_
    refine hr_aload_n hC dX21_begin_142 rfl ?_
    refine hr_gA hC F23_23 rfl dX21_begin_143 q2865 ?_
    refine hr_iload_n hC dX21_begin_146 rfl ?_
    obtain ⟨c28, h⟩ := hk_ok h
    refine hs_iald hC A23_23 c28 dX21_begin_147 ?_
    obtain ⟨c29, h⟩ := hk_ok h
    refine hs_iald hC A23_14 c29 dX21_begin_148 ?_
    refine hr_icmp_ge (x := _) hC 201 dX21_begin_149 (by decide) (fun c31 => ?_) (fun c31 => ?_)
    · rw [if_pos c31] at h
      obtain rfl := Option.some.inj h
      exact hr_sub _ rfl (JX)
    · rw [if_neg c31] at h
      refine hr_aload_n hC dX21_begin_152 rfl ?_
      refine hr_iload hC dX21_begin_153 rfl ?_
      refine hr_bipush (v := 34) hC dX21_begin_155 rfl ?_
      obtain ⟨r32, e33, h⟩ := hx_bind h
      refine hs_callV0 hC 23 [_, _] _ dX21_begin_157 q3165 q3167 qs181 q335 q3168 np_X21 rfl OB_23 pd_X21_character (Nat.le_of_ble_eq_true rfl) hd1 (okX21_character l E A (d - 1)  (by omega)  e33 am1) rfl ?_
      refine hr_istore hC dX21_begin_160 (by decide) ?_
      refine hr_aload_n hC dX21_begin_162 rfl ?_
      refine hr_gA hC F23_66 rfl dX21_begin_163 q2907 ?_
      refine hr_iload_n hC dX21_begin_166 rfl ?_
      refine hr_iload hC dX21_begin_167 rfl ?_
      refine hr_iadd hC dX21_begin_169 ?_
      refine hr_iload hC dX21_begin_170 rfl ?_
      refine hr_sipush (v := 1000) hC dX21_begin_172 rfl ?_
      refine hr_irem hC dX21_begin_175 (by decide) ?_
      obtain ⟨c36, h⟩ := hk_ok h
      obtain ⟨σ37, hσ37, h⟩ := hl_ok h
      refine hs_iast hC A23_66 c36 dX21_begin_176 ?_
      rw [← hσ37]
      refine hr_iload hC dX21_begin_177 rfl ?_
      refine hr_iload hC dX21_begin_179 rfl ?_
      refine hr_sipush (v := 1000) hC dX21_begin_181 rfl ?_
      obtain ⟨v40, hv40, h⟩ := hl_ok h
      have J41 : ∀ w42 : Int32, (if 1000 ≤ r32 then 2 else 1) = w42 → hc_At hc_V0 E 7 X 192 [(0, .ref (E.2.1 23)), (1, .int y1), (3, .int y3), (5, .int y5)] [.int w42, .int y4] σ37 am1 [] := by
        intro w42 hw42
        obtain rfl := hv40.trans hw42
        refine hr_iadd hC dX21_begin_192 ?_
        refine hr_istore hC dX21_begin_193 (by decide) ?_
        refine hr_iinc (v := y5 + 1) hC dX21_begin_195 rfl rfl (by decide) ?_
        refine hr_goto hC 136 dX21_begin_198 (by decide) ?_
        exact hr_sub _ rfl (ih _ _ _ _ _ _ am1 h JX)
      refine hr_icmp_ge (x := _) hC 191 dX21_begin_184 (by decide) (fun c43 => ?_) (fun c43 => ?_)
      · refine hr_iconst (v := 2) hC dX21_begin_191 rfl ?_
        exact hr_sub _ rfl (J41 _ (by first | (rw [if_pos c43]; done) | (simp only [if_pos c43]; done) | rfl))
      · refine hr_iconst (v := 1) hC dX21_begin_187 rfl ?_
        refine hr_goto hC 192 dX21_begin_188 (by decide) ?_
        exact hr_sub _ rfl (J41 _ (by first | (rw [if_neg c43]; done) | (simp only [if_neg c43]; done) | rfl))
set_option maxRecDepth 20000 in
set_option maxHeartbeats 4000000 in
theorem ll_X21_begin_64 {l : Launch} {E : hc_E} {A : Nat → Prop} {am : Nat → Nat → Nat} {d : Nat} {X : hc_X} (n : Nat) (hD : 3 ≤ d) (hem : X.2.2.2.2.2.2.2.2.2.1.exceptionTable.isEmpty = true) {oc : hc_Oc} {σe : hc_St} (hC : hc_C hc_V0 E cX21_begin 7 RX21 none d oc σe (l, A, am, []) X) : ∀ (m : Nat) (σ : hc_St) (y2 : Int32) (y3 : Int32) (y4 : Int32) (y5 : Int32) (rl : hc_St) (am1 : Nat → Nat → Nat), lp_X21_begin_64 n m y2 y3 y4 y5 σ = some rl → (hc_At hc_V0 E 7 X 105 [] [] rl am1 []) → hc_At hc_V0 E 7 X 64 [(0, .ref (E.2.1 23)), (2, .int y2), (3, .int y3), (4, .int y4), (5, .int y5)] [] σ am1 [] := by
  have hd1 : 1 ≤ d := by omega
  intro m
  induction m with
  | zero =>
    intro σ y2 y3 y4 y5 rl am1 h
    cases h
  | succ m ih =>
    intro σ y2 y3 y4 y5 rl am1 h JX
    rw [lp_X21_begin_64] at h
    refine hr_iload hC dX21_begin_64 rfl ?_
    refine hr_if_lt (x := _) hC 105 dX21_begin_66 (by decide) (fun c51 => ?_) (fun c51 => ?_)
    · rw [if_pos c51] at h
      obtain rfl := Option.some.inj h
      exact hr_sub _ rfl (JX)
    · rw [if_neg c51] at h
      refine hr_aload_n hC dX21_begin_69 rfl ?_
      refine hr_gA hC F23_66 rfl dX21_begin_70 q2907 ?_
      refine hr_iload_n hC dX21_begin_73 rfl ?_
      refine hr_iload hC dX21_begin_74 rfl ?_
      refine hr_iadd hC dX21_begin_76 ?_
      refine hr_aload_n hC dX21_begin_77 rfl ?_
      refine hr_iload_n hC dX21_begin_78 rfl ?_
      refine hr_aload_n hC dX21_begin_79 rfl ?_
      refine hr_gA hC F23_24 rfl dX21_begin_80 q2866 ?_
      refine hr_iload hC dX21_begin_83 rfl ?_
      obtain ⟨c52, h⟩ := hk_ok h
      refine hs_iald hC A23_24 c52 dX21_begin_85 ?_
      obtain ⟨r53, e54, h⟩ := hx_bind h
      refine hs_callV0 hC 23 [_, _] _ dX21_begin_86 q3563 q3565 qs275 q335 q3566 np_X21 rfl OB_23 pd_X21_stored (Nat.le_of_ble_eq_true rfl) hd1 (okX21_stored l E A (d - 1)  (by omega)  e54 am1) rfl ?_
      obtain ⟨c57, h⟩ := hk_ok h
      obtain ⟨σ58, hσ58, h⟩ := hl_ok h
      refine hs_iast hC A23_66 c57 dX21_begin_89 ?_
      rw [← hσ58]
      refine hr_iinc (v := y4 + 1) hC dX21_begin_90 rfl rfl (by decide) ?_
      refine hr_aload_n hC dX21_begin_93 rfl ?_
      refine hr_gA hC F23_25 rfl dX21_begin_94 q2867 ?_
      refine hr_iload hC dX21_begin_97 rfl ?_
      obtain ⟨c59, h⟩ := hk_ok h
      refine hs_iald hC A23_25 c59 dX21_begin_99 ?_
      refine hr_istore hC dX21_begin_100 (by decide) ?_
      refine hr_goto hC 64 dX21_begin_102 (by decide) ?_
      exact hr_sub _ rfl (ih _ _ _ _ _ _ am1 h JX)
set_option maxRecDepth 20000 in
set_option maxHeartbeats 4000000 in
theorem okX21_begin (l : Launch) (E : hc_E) (A : Nat → Prop) (d : Nat) (n : Nat) (hD : 3 ≤ d) {x1 : Int32} {σ : hc_St} {r : hc_St} (h : fm_X21_begin n x1 σ = some r) (am : Nat → Nat → Nat) : hc_M l hc_V0 yX21_begin (ws_ yX21_begin cX21_begin 7 none) d E A [.ref (E.2.1 23), .int x1] am [] σ (.inl none) r := by
  have hd1 : 1 ≤ d := by omega
  refine hc_enter2 (own := RX21) [(0, .ref (E.2.1 23)), (1, .int x1)] pl_X21 rfl hc_V0_st hc_G0_nd rfl (Nat.le_of_ble_eq_true rfl) (fun X hC hem => ?_)
  unfold fm_X21_begin at h
  refine hr_aload_n hC dX21_begin_0 rfl ?_
  refine hr_gA hC F23_24 rfl dX21_begin_1 q2866 ?_
  refine hr_iload_n hC dX21_begin_4 rfl ?_
  obtain ⟨c1, h⟩ := hk_ok h
  refine hs_iald hC A23_24 c1 dX21_begin_5 ?_
  refine hr_istore_n hC dX21_begin_6 (by decide) ?_
  refine hr_aload_n hC dX21_begin_7 rfl ?_
  refine hr_iload_n hC dX21_begin_8 rfl ?_
  obtain ⟨r2, e3, h⟩ := hx_bind h
  refine hs_callV0 hC 23 [_] _ dX21_begin_9 q3559 q3561 qs274 q335 q3562 np_X21 rfl OB_23 pd_X21_cellOf (Nat.le_of_ble_eq_true rfl) hd1 (okX21_cellOf l E A (d - 1)  (by omega)  e3 am) rfl ?_
  refine hr_istore_n hC dX21_begin_12 (by decide) ?_
  refine hr_iconst (v := 0) hC dX21_begin_13 rfl ?_
  refine hr_istore hC dX21_begin_14 (by decide) ?_
  obtain ⟨r11, e12, h⟩ := hx_bind h
  refine hr_sub _ rfl (ll_X21_begin_16 n hD hem hC n _ _ _ _ _ _ am e12 ?_)
  refine hr_aload_n hC dX21_begin_43 rfl ?_
  refine hr_gA hC F23_26 rfl dX21_begin_44 q2868 ?_
  refine hr_iload_n hC dX21_begin_47 rfl ?_
  obtain ⟨c16, h⟩ := hk_ok h
  refine hs_iald hC A23_26 c16 dX21_begin_48 ?_
  refine hr_iconst (v := 2) hC dX21_begin_49 rfl ?_
  obtain ⟨r19, e20, h⟩ := hx_bind h
  have J21 : hc_At hc_V0 E 7 X 201 [] [] r19 am [] := by
    obtain rfl := Option.some.inj h
    exact hr_vret hC dX21_begin_201
  clear h
  have h := e20
  refine hr_icmp_ne (x := _) hC 108 dX21_begin_50 (by decide) (fun c18 => ?_) (fun c18 => ?_)
  · rw [if_neg c18] at h
    refine hr_aload_n hC dX21_begin_108 rfl ?_
    refine hr_gA hC F23_26 rfl dX21_begin_109 q2868 ?_
    refine hr_iload_n hC dX21_begin_112 rfl ?_
    obtain ⟨c23, h⟩ := hk_ok h
    refine hs_iald hC A23_26 c23 dX21_begin_113 ?_
    refine hr_iconst (v := 3) hC dX21_begin_114 rfl ?_
    refine hr_icmp_ne (x := _) hC 201 dX21_begin_115 (by decide) (fun c25 => ?_) (fun c25 => ?_)
    · rw [if_neg c25] at h
      obtain rfl := Option.some.inj h
      exact hr_sub _ rfl (J21)
    · rw [if_pos c25] at h
      refine hr_aload_n hC dX21_begin_118 rfl ?_
      refine hr_gA hC F23_11 rfl dX21_begin_119 q2853 ?_
      refine hr_aload_n hC dX21_begin_122 rfl ?_
      refine hr_gA hC F23_23 rfl dX21_begin_123 q2865 ?_
      refine hr_iload_n hC dX21_begin_126 rfl ?_
      obtain ⟨c26, h⟩ := hk_ok h
      refine hs_iald hC A23_23 c26 dX21_begin_127 ?_
      obtain ⟨c27, h⟩ := hk_ok h
      refine hs_iald hC A23_11 c27 dX21_begin_128 ?_
      refine hr_iconst (v := 1) hC dX21_begin_129 rfl ?_
      refine hr_iadd hC dX21_begin_130 ?_
      refine hr_istore hC dX21_begin_131 (by decide) ?_
      refine hr_iconst (v := 0) hC dX21_begin_133 rfl ?_
      refine hr_istore hC dX21_begin_134 (by decide) ?_
      obtain ⟨r44, e45, h⟩ := hx_bind h
      refine hr_sub _ rfl (ll_X21_begin_136 n hD hem hC n _ _ _ _ _ _ am e45 ?_)
      obtain rfl := Option.some.inj h
      exact hr_sub _ rfl (J21)
  · rw [if_pos c18] at h
    refine hr_iconst (v := 0) hC dX21_begin_53 rfl ?_
    refine hr_istore hC dX21_begin_54 (by decide) ?_
    refine hr_aload_n hC dX21_begin_56 rfl ?_
    refine hr_gA hC F23_22 rfl dX21_begin_57 q2864 ?_
    refine hr_iload_n hC dX21_begin_60 rfl ?_
    obtain ⟨c49, h⟩ := hk_ok h
    refine hs_iald hC A23_22 c49 dX21_begin_61 ?_
    refine hr_istore hC dX21_begin_62 (by decide) ?_
    obtain ⟨r60, e61, h⟩ := hx_bind h
    refine hr_sub _ rfl (ll_X21_begin_64 n hD hem hC n _ _ _ _ _ _ am e61 ?_)
    refine hr_goto hC 201 dX21_begin_105 (by decide) ?_
    obtain rfl := Option.some.inj h
    exact hr_sub _ rfl (J21)
def lp_X21_setText_7 (n : Nat) : Nat → Int32 → hc_St → Option (hc_St)
  | 0, _, _ => none
  | m + 1, y1, σ => if 37000 ≤ y1 then (some (σ)) else (hk (inb y1 (gL σ 23 66)) <| hl (pC σ 23 66 y1 0) fun σ5 => lp_X21_setText_7 n m ((y1 + 1)) σ5)
def lp_X21_setText_59 (n : Nat) : Nat → Int32 → Int32 → hc_St → Option (hc_St)
  | 0, _, _, _ => none
  | m + 1, y1, y2, σ => if y2 < 0 then (some (σ)) else (Option.bind (fm_X21_begin n y2 σ) fun r24 => hk (inb y2 (gL r24 23 26)) <| Option.bind (α := hc_St) (if (gC r24 23 26 y2) = 1 then (hk (inb y2 (gL r24 23 24)) <| hk (inb ((gC r24 23 24 y2)) (gL r24 23 56)) <| hk (inb y2 (gL r24 23 24)) <| hk (inb y2 (gL r24 23 22)) <| hk (inb ((gC r24 23 22 y2)) (gL r24 23 24)) <| Option.bind (fm_X21_stored ((gC r24 23 24 y2)) ((gC r24 23 24 ((gC r24 23 22 y2)))) r24) fun r40 => hk (inb ((gC r24 23 56 ((gC r24 23 24 y2)))) (gL r24 23 66)) <| hl (pC r24 23 66 ((gC r24 23 56 ((gC r24 23 24 y2)))) r40) fun σ45 => some (σ45)) else (some (r24))) fun r31 => hk (inb y2 (gL r31 23 25)) <| lp_X21_setText_59 n m y1 ((gC r31 23 25 y2)) r31)
def lp_X21_setText_37 (n : Nat) : Nat → Int32 → hc_St → Option (hc_St)
  | 0, _, _ => none
  | m + 1, y1, σ => if y1 < 0 then (some (σ)) else (hk (inb y1 (gL σ 23 18)) <| Option.bind (α := hc_St) (if (gC σ 23 18 y1).toInt8.toInt32 = 23 then (hk (inb y1 (gL σ 23 21)) <| Option.bind (lp_X21_setText_59 n n y1 ((gC σ 23 21 y1)) σ) fun r47 => some (r47)) else (some (σ))) fun r17 => hk (inb y1 (gL r17 23 25)) <| lp_X21_setText_37 n m ((gC r17 23 25 y1)) r17)
/-- HomeCompilerModel.setText()V -/
def fm_X21_setText (n : Nat)  (σ : hc_St) : Option hc_St := hl (pI σ 23 48 ((-1))) fun σ1 => Option.bind (lp_X21_setText_7 n n 0 σ1) fun r6 => hl (pI r6 23 67 0) fun σ11 => Option.bind (lp_X21_setText_37 n n ((gI σ11 23 28)) σ11) fun r53 => some r53
set_option maxRecDepth 20000 in
set_option maxHeartbeats 4000000 in
theorem ll_X21_setText_7 {l : Launch} {E : hc_E} {A : Nat → Prop} {am : Nat → Nat → Nat} {d : Nat} {X : hc_X} (n : Nat) (hD : 4 ≤ d) (hem : X.2.2.2.2.2.2.2.2.2.1.exceptionTable.isEmpty = true) {oc : hc_Oc} {σe : hc_St} (hC : hc_C hc_V0 E cX21_setText 3 RX21 none d oc σe (l, A, am, []) X) : ∀ (m : Nat) (σ : hc_St) (y1 : Int32) (rl : hc_St) (am1 : Nat → Nat → Nat), lp_X21_setText_7 n m y1 σ = some rl → (hc_At hc_V0 E 3 X 27 [(0, .ref (E.2.1 23))] [] rl am1 []) → hc_At hc_V0 E 3 X 7 [(0, .ref (E.2.1 23)), (1, .int y1)] [] σ am1 [] := by
  have hd1 : 1 ≤ d := by omega
  intro m
  induction m with
  | zero =>
    intro σ y1 rl am1 h
    cases h
  | succ m ih =>
    intro σ y1 rl am1 h JX
    rw [lp_X21_setText_7] at h
    refine hr_iload_n hC dX21_setText_7 rfl ?_
    refine hr_ldcw hC dX21_setText_8 q2839 ?_
    refine hr_icmp_ge (x := _) hC 27 dX21_setText_11 (by decide) (fun c3 => ?_) (fun c3 => ?_)
    · rw [if_pos c3] at h
      obtain rfl := Option.some.inj h
      exact hr_sub _ rfl (JX)
    · rw [if_neg c3] at h
      refine hr_aload_n hC dX21_setText_14 rfl ?_
      refine hr_gA hC F23_66 rfl dX21_setText_15 q2907 ?_
      refine hr_iload_n hC dX21_setText_18 rfl ?_
      refine hr_iconst (v := 0) hC dX21_setText_19 rfl ?_
      obtain ⟨c4, h⟩ := hk_ok h
      obtain ⟨σ5, hσ5, h⟩ := hl_ok h
      refine hs_iast hC A23_66 c4 dX21_setText_20 ?_
      rw [← hσ5]
      refine hr_iinc (v := y1 + 1) hC dX21_setText_21 rfl rfl (by decide) ?_
      refine hr_goto hC 7 dX21_setText_24 (by decide) ?_
      exact hr_sub _ rfl (ih _ _ _ am1 h JX)
set_option maxRecDepth 20000 in
set_option maxHeartbeats 4000000 in
theorem ll_X21_setText_59 {l : Launch} {E : hc_E} {A : Nat → Prop} {am : Nat → Nat → Nat} {d : Nat} {X : hc_X} (n : Nat) (hD : 4 ≤ d) (hem : X.2.2.2.2.2.2.2.2.2.1.exceptionTable.isEmpty = true) {oc : hc_Oc} {σe : hc_St} (hC : hc_C hc_V0 E cX21_setText 3 RX21 none d oc σe (l, A, am, []) X) : ∀ (m : Nat) (σ : hc_St) (y1 : Int32) (y2 : Int32) (rl : hc_St) (am1 : Nat → Nat → Nat), lp_X21_setText_59 n m y1 y2 σ = some rl → (hc_At hc_V0 E 3 X 125 [(0, .ref (E.2.1 23)), (1, .int y1)] [] rl am1 []) → hc_At hc_V0 E 3 X 59 [(0, .ref (E.2.1 23)), (1, .int y1), (2, .int y2)] [] σ am1 [] := by
  have hd1 : 1 ≤ d := by omega
  intro m
  induction m with
  | zero =>
    intro σ y1 y2 rl am1 h
    cases h
  | succ m ih =>
    intro σ y1 y2 rl am1 h JX
    rw [lp_X21_setText_59] at h
    refine hr_iload_n hC dX21_setText_59 rfl ?_
    refine hr_if_lt (x := _) hC 125 dX21_setText_60 (by decide) (fun c23 => ?_) (fun c23 => ?_)
    · rw [if_pos c23] at h
      obtain rfl := Option.some.inj h
      exact hr_sub _ rfl (JX)
    · rw [if_neg c23] at h
      refine hr_aload_n hC dX21_setText_63 rfl ?_
      refine hr_iload_n hC dX21_setText_64 rfl ?_
      obtain ⟨r24, e25, h⟩ := hx_bind h
      refine hs_callV0 hC 23 [_] _ dX21_setText_65 q3555 q3557 qs273 q335 q3558 np_X21 rfl OB_23 pd_X21_begin (Nat.le_of_ble_eq_true rfl) hd1 (okX21_begin l E A (d - 1) n (by omega)  e25 am1) rfl ?_
      refine hr_aload_n hC dX21_setText_68 rfl ?_
      refine hr_gA hC F23_26 rfl dX21_setText_69 q2868 ?_
      refine hr_iload_n hC dX21_setText_72 rfl ?_
      obtain ⟨c28, h⟩ := hk_ok h
      refine hs_iald hC A23_26 c28 dX21_setText_73 ?_
      refine hr_iconst (v := 1) hC dX21_setText_74 rfl ?_
      obtain ⟨r31, e32, h⟩ := hx_bind h
      have J33 : hc_At hc_V0 E 3 X 115 [(0, .ref (E.2.1 23)), (1, .int y1), (2, .int y2)] [] r31 am1 [] := by
        refine hr_aload_n hC dX21_setText_115 rfl ?_
        refine hr_gA hC F23_25 rfl dX21_setText_116 q2867 ?_
        refine hr_iload_n hC dX21_setText_119 rfl ?_
        obtain ⟨c46, h⟩ := hk_ok h
        refine hs_iald hC A23_25 c46 dX21_setText_120 ?_
        refine hr_istore_n hC dX21_setText_121 (by decide) ?_
        refine hr_goto hC 59 dX21_setText_122 (by decide) ?_
        exact hr_sub _ rfl (ih _ _ _ _ am1 h JX)
      clear h
      have h := e32
      refine hr_icmp_ne (x := _) hC 115 dX21_setText_75 (by decide) (fun c30 => ?_) (fun c30 => ?_)
      · rw [if_neg c30] at h
        obtain rfl := Option.some.inj h
        exact hr_sub _ rfl (J33)
      · rw [if_pos c30] at h
        refine hr_aload_n hC dX21_setText_78 rfl ?_
        refine hr_gA hC F23_66 rfl dX21_setText_79 q2907 ?_
        refine hr_aload_n hC dX21_setText_82 rfl ?_
        refine hr_gA hC F23_56 rfl dX21_setText_83 q2897 ?_
        refine hr_aload_n hC dX21_setText_86 rfl ?_
        refine hr_gA hC F23_24 rfl dX21_setText_87 q2866 ?_
        refine hr_iload_n hC dX21_setText_90 rfl ?_
        obtain ⟨c35, h⟩ := hk_ok h
        refine hs_iald hC A23_24 c35 dX21_setText_91 ?_
        obtain ⟨c36, h⟩ := hk_ok h
        refine hs_iald hC A23_56 c36 dX21_setText_92 ?_
        refine hr_aload_n hC dX21_setText_93 rfl ?_
        refine hr_aload_n hC dX21_setText_94 rfl ?_
        refine hr_gA hC F23_24 rfl dX21_setText_95 q2866 ?_
        refine hr_iload_n hC dX21_setText_98 rfl ?_
        obtain ⟨c37, h⟩ := hk_ok h
        refine hs_iald hC A23_24 c37 dX21_setText_99 ?_
        refine hr_aload_n hC dX21_setText_100 rfl ?_
        refine hr_gA hC F23_24 rfl dX21_setText_101 q2866 ?_
        refine hr_aload_n hC dX21_setText_104 rfl ?_
        refine hr_gA hC F23_22 rfl dX21_setText_105 q2864 ?_
        refine hr_iload_n hC dX21_setText_108 rfl ?_
        obtain ⟨c38, h⟩ := hk_ok h
        refine hs_iald hC A23_22 c38 dX21_setText_109 ?_
        obtain ⟨c39, h⟩ := hk_ok h
        refine hs_iald hC A23_24 c39 dX21_setText_110 ?_
        obtain ⟨r40, e41, h⟩ := hx_bind h
        refine hs_callV0 hC 23 [_, _] _ dX21_setText_111 q3563 q3565 qs275 q335 q3566 np_X21 rfl OB_23 pd_X21_stored (Nat.le_of_ble_eq_true rfl) hd1 (okX21_stored l E A (d - 1)  (by omega)  e41 am1) rfl ?_
        obtain ⟨c44, h⟩ := hk_ok h
        obtain ⟨σ45, hσ45, h⟩ := hl_ok h
        refine hs_iast hC A23_66 c44 dX21_setText_114 ?_
        rw [← hσ45]
        obtain rfl := Option.some.inj h
        exact hr_sub _ rfl (J33)
set_option maxRecDepth 20000 in
set_option maxHeartbeats 4000000 in
theorem ll_X21_setText_37 {l : Launch} {E : hc_E} {A : Nat → Prop} {am : Nat → Nat → Nat} {d : Nat} {X : hc_X} (n : Nat) (hD : 4 ≤ d) (hem : X.2.2.2.2.2.2.2.2.2.1.exceptionTable.isEmpty = true) {oc : hc_Oc} {σe : hc_St} (hC : hc_C hc_V0 E cX21_setText 3 RX21 none d oc σe (l, A, am, []) X) : ∀ (m : Nat) (σ : hc_St) (y1 : Int32) (rl : hc_St) (am1 : Nat → Nat → Nat), lp_X21_setText_37 n m y1 σ = some rl → (hc_At hc_V0 E 3 X 135 [] [] rl am1 []) → hc_At hc_V0 E 3 X 37 [(0, .ref (E.2.1 23)), (1, .int y1)] [] σ am1 [] := by
  have hd1 : 1 ≤ d := by omega
  intro m
  induction m with
  | zero =>
    intro σ y1 rl am1 h
    cases h
  | succ m ih =>
    intro σ y1 rl am1 h JX
    rw [lp_X21_setText_37] at h
    refine hr_iload_n hC dX21_setText_37 rfl ?_
    refine hr_if_lt (x := _) hC 135 dX21_setText_38 (by decide) (fun c13 => ?_) (fun c13 => ?_)
    · rw [if_pos c13] at h
      obtain rfl := Option.some.inj h
      exact hr_sub _ rfl (JX)
    · rw [if_neg c13] at h
      refine hr_aload_n hC dX21_setText_41 rfl ?_
      refine hr_gA hC F23_18 rfl dX21_setText_42 q2860 ?_
      refine hr_iload_n hC dX21_setText_45 rfl ?_
      obtain ⟨c14, h⟩ := hk_ok h
      refine hs_bald hC A23_18 c14 dX21_setText_46 ?_
      refine hr_bipush (v := 23) hC dX21_setText_47 rfl ?_
      obtain ⟨r17, e18, h⟩ := hx_bind h
      have J19 : hc_At hc_V0 E 3 X 125 [(0, .ref (E.2.1 23)), (1, .int y1)] [] r17 am1 [] := by
        refine hr_aload_n hC dX21_setText_125 rfl ?_
        refine hr_gA hC F23_25 rfl dX21_setText_126 q2867 ?_
        refine hr_iload_n hC dX21_setText_129 rfl ?_
        obtain ⟨c52, h⟩ := hk_ok h
        refine hs_iald hC A23_25 c52 dX21_setText_130 ?_
        refine hr_istore_n hC dX21_setText_131 (by decide) ?_
        refine hr_goto hC 37 dX21_setText_132 (by decide) ?_
        exact hr_sub _ rfl (ih _ _ _ am1 h JX)
      clear h
      have h := e18
      refine hr_icmp_ne (x := _) hC 125 dX21_setText_49 (by decide) (fun c16 => ?_) (fun c16 => ?_)
      · rw [if_neg c16] at h
        obtain rfl := Option.some.inj h
        exact hr_sub _ rfl (J19)
      · rw [if_pos c16] at h
        refine hr_aload_n hC dX21_setText_52 rfl ?_
        refine hr_gA hC F23_21 rfl dX21_setText_53 q2863 ?_
        refine hr_iload_n hC dX21_setText_56 rfl ?_
        obtain ⟨c21, h⟩ := hk_ok h
        refine hs_iald hC A23_21 c21 dX21_setText_57 ?_
        refine hr_istore_n hC dX21_setText_58 (by decide) ?_
        obtain ⟨r47, e48, h⟩ := hx_bind h
        refine hr_sub _ rfl (ll_X21_setText_59 n hD hem hC n _ _ _ _ am1 e48 ?_)
        obtain rfl := Option.some.inj h
        exact hr_sub _ rfl (J19)
set_option maxRecDepth 20000 in
set_option maxHeartbeats 4000000 in
theorem okX21_setText (l : Launch) (E : hc_E) (A : Nat → Prop) (d : Nat) (n : Nat) (hD : 4 ≤ d)  {σ : hc_St} {r : hc_St} (h : fm_X21_setText n  σ = some r) (am : Nat → Nat → Nat) : hc_M l hc_V0 yX21_setText (ws_ yX21_setText cX21_setText 3 none) d E A [.ref (E.2.1 23)] am [] σ (.inl none) r := by
  have hd1 : 1 ≤ d := by omega
  refine hc_enter2 (own := RX21) [(0, .ref (E.2.1 23))] pl_X21 rfl hc_V0_st hc_G0_nd rfl (Nat.le_of_ble_eq_true rfl) (fun X hC hem => ?_)
  unfold fm_X21_setText at h
  refine hr_aload_n hC dX21_setText_0 rfl ?_
  refine hr_iconst (v := (-1)) hC dX21_setText_1 rfl ?_
  obtain ⟨σ1, hσ1, h⟩ := hl_ok h
  refine hr_pI hC F23_48 PX21_48 dX21_setText_2 q2889 ?_
  rw [← hσ1]
  refine hr_iconst (v := 0) hC dX21_setText_5 rfl ?_
  refine hr_istore_n hC dX21_setText_6 (by decide) ?_
  obtain ⟨r6, e7, h⟩ := hx_bind h
  refine hr_sub _ rfl (ll_X21_setText_7 n hD hem hC n _ _ _ am e7 ?_)
  refine hr_aload_n hC dX21_setText_27 rfl ?_
  refine hr_iconst (v := 0) hC dX21_setText_28 rfl ?_
  obtain ⟨σ11, hσ11, h⟩ := hl_ok h
  refine hr_pI hC F23_67 PX21_67 dX21_setText_29 q2908 ?_
  rw [← hσ11]
  refine hr_aload_n hC dX21_setText_32 rfl ?_
  refine hr_gI hC F23_28 dX21_setText_33 q2870 ?_
  refine hr_istore_n hC dX21_setText_36 (by decide) ?_
  obtain ⟨r53, e54, h⟩ := hx_bind h
  refine hr_sub _ rfl (ll_X21_setText_37 n hD hem hC n _ _ _ am e54 ?_)
  obtain rfl := Option.some.inj h
  exact hr_vret hC dX21_setText_135
/-- HomeCompilerModel.give(I)V -/
def fm_X21_give  (x1 : Int32) (σ : hc_St) : Option hc_St := hk (inb ((gI σ 23 72)) (gL σ 23 73)) <| hl (pC σ 23 73 ((gI σ 23 72)) x1) fun σ2 => hl (pI σ2 23 72 ((((gI σ2 23 72)) + 1))) fun σ3 => some σ3
set_option maxRecDepth 20000 in
set_option maxHeartbeats 4000000 in
theorem okX21_give (l : Launch) (E : hc_E) (A : Nat → Prop) (d : Nat)  (hD : 1 ≤ d) {x1 : Int32} {σ : hc_St} {r : hc_St} (h : fm_X21_give  x1 σ = some r) (am : Nat → Nat → Nat) : hc_M l hc_V0 yX21_give (ws_ yX21_give cX21_give 2 none) d E A [.ref (E.2.1 23), .int x1] am [] σ (.inl none) r := by
  have hd1 : 1 ≤ d := by omega
  refine hc_enter2 (own := RX21) [(0, .ref (E.2.1 23)), (1, .int x1)] pl_X21 rfl hc_V0_st hc_G0_nd rfl (Nat.le_of_ble_eq_true rfl) (fun X hC hem => ?_)
  unfold fm_X21_give at h
  refine hr_aload_n hC dX21_give_0 rfl ?_
  refine hr_gA hC F23_73 rfl dX21_give_1 q2914 ?_
  refine hr_aload_n hC dX21_give_4 rfl ?_
  refine hr_gI hC F23_72 dX21_give_5 q2913 ?_
  refine hr_iload_n hC dX21_give_8 rfl ?_
  obtain ⟨c1, h⟩ := hk_ok h
  obtain ⟨σ2, hσ2, h⟩ := hl_ok h
  refine hs_iast hC A23_73 c1 dX21_give_9 ?_
  rw [← hσ2]
  refine hr_aload_n hC dX21_give_10 rfl ?_
  refine hr_dup hC dX21_give_11 rfl ?_
  refine hr_gI hC F23_72 dX21_give_12 q2913 ?_
  refine hr_iconst (v := 1) hC dX21_give_15 rfl ?_
  refine hr_iadd hC dX21_give_16 ?_
  obtain ⟨σ3, hσ3, h⟩ := hl_ok h
  refine hr_pI hC F23_72 PX21_72 dX21_give_17 q2913 ?_
  rw [← hσ3]
  obtain rfl := Option.some.inj h
  exact hr_vret hC dX21_give_20
def lp_X21_mainFunction_4 (n : Nat) : Nat → Int32 → Int32 → hc_St → Option (Int32)
  | 0, _, _, _ => none
  | m + 1, y1, y2, σ => if (gI σ 23 43) ≤ y2 then (some (y1)) else (hk (inb y2 (gL σ 23 44)) <| hk (inb ((gC σ 23 44 y2)) (gL σ 23 19)) <| Option.bind (fm_X21_isNamed n ((gC σ 23 19 ((gC σ 23 44 y2)))) 121 σ) fun r5 => hl (α := Int32) ((if r5 = 0 then y1 else y2)) fun v11 => lp_X21_mainFunction_4 n m v11 ((y2 + 1)) σ)
/-- HomeCompilerModel.mainFunction()I -/
def fm_X21_mainFunction (n : Nat)  (σ : hc_St) : Option Int32 := Option.bind (lp_X21_mainFunction_4 n n ((-1)) 0 σ) fun r15 => some r15
set_option maxRecDepth 20000 in
set_option maxHeartbeats 4000000 in
theorem ll_X21_mainFunction_4 {l : Launch} {E : hc_E} {A : Nat → Prop} {am : Nat → Nat → Nat} {d : Nat} {X : hc_X} (n : Nat) (hD : 11 ≤ d) (hem : X.2.2.2.2.2.2.2.2.2.1.exceptionTable.isEmpty = true) {oc : hc_Oc} {σe : hc_St} (hC : hc_C hc_V0 E cX21_mainFunction 3 RX21 (some .int) d oc σe (l, A, am, []) X) : ∀ (m : Nat) (σ : hc_St) (y1 : Int32) (y2 : Int32) (rl : Int32) (am1 : Nat → Nat → Nat), lp_X21_mainFunction_4 n m y1 y2 σ = some rl → (hc_At hc_V0 E 3 X 45 [(1, .int rl)] [] σ am1 []) → hc_At hc_V0 E 3 X 4 [(0, .ref (E.2.1 23)), (1, .int y1), (2, .int y2)] [] σ am1 [] := by
  have hd1 : 1 ≤ d := by omega
  have hd8 : 9 ≤ d := by omega
  intro m
  induction m with
  | zero =>
    intro σ y1 y2 rl am1 h
    cases h
  | succ m ih =>
    intro σ y1 y2 rl am1 h JX
    rw [lp_X21_mainFunction_4] at h
    refine hr_iload_n hC dX21_mainFunction_4 rfl ?_
    refine hr_aload_n hC dX21_mainFunction_5 rfl ?_
    refine hr_gI hC F23_43 dX21_mainFunction_6 q2884 ?_
    refine hr_icmp_ge (x := _) hC 45 dX21_mainFunction_9 (by decide) (fun c2 => ?_) (fun c2 => ?_)
    · rw [if_pos c2] at h
      obtain rfl := Option.some.inj h
      exact hr_sub _ rfl (JX)
    · rw [if_neg c2] at h
      refine hr_aload_n hC dX21_mainFunction_12 rfl ?_
      refine hr_aload_n hC dX21_mainFunction_13 rfl ?_
      refine hr_gA hC F23_19 rfl dX21_mainFunction_14 q2861 ?_
      refine hr_aload_n hC dX21_mainFunction_17 rfl ?_
      refine hr_gA hC F23_44 rfl dX21_mainFunction_18 q2885 ?_
      refine hr_iload_n hC dX21_mainFunction_21 rfl ?_
      obtain ⟨c3, h⟩ := hk_ok h
      refine hs_iald hC A23_44 c3 dX21_mainFunction_22 ?_
      obtain ⟨c4, h⟩ := hk_ok h
      refine hs_iald hC A23_19 c4 dX21_mainFunction_23 ?_
      refine hr_ldcsw (v := 121) 121 hC dX21_mainFunction_24 (List.mem_of_getElem? (i := 121) rfl) (by decide) rfl ?_
      obtain ⟨r5, e6, h⟩ := hx_bind h
      refine hs_callV0 hC 23 [_, _] _ dX21_mainFunction_27 q3386 q3388 qs233 q335 q3389 np_X21 rfl OB_23 pd_X21_isNamed (Nat.le_of_ble_eq_true rfl) hd1 (okX21_isNamed l E A (d - 1) n (by omega)  e6 am1) rfl ?_
      obtain ⟨v11, hv11, h⟩ := hl_ok h
      have J12 : ∀ w13 : Int32, (if r5 = 0 then y1 else y2) = w13 → hc_At hc_V0 E 3 X 38 [(0, .ref (E.2.1 23)), (2, .int y2)] [.int w13] σ am1 [] := by
        intro w13 hw13
        obtain rfl := hv11.trans hw13
        refine hr_istore_n hC dX21_mainFunction_38 (by decide) ?_
        refine hr_iinc (v := y2 + 1) hC dX21_mainFunction_39 rfl rfl (by decide) ?_
        refine hr_goto hC 4 dX21_mainFunction_42 (by decide) ?_
        exact hr_sub _ rfl (ih _ _ _ _ am1 h JX)
      refine hr_if_eq (x := _) hC 37 dX21_mainFunction_30 (by decide) (fun c14 => ?_) (fun c14 => ?_)
      · refine hr_iload_n hC dX21_mainFunction_37 rfl ?_
        exact hr_sub _ rfl (J12 _ (by first | (rw [if_pos c14]; done) | (simp only [if_pos c14]; done) | rfl))
      · refine hr_iload_n hC dX21_mainFunction_33 rfl ?_
        refine hr_goto hC 38 dX21_mainFunction_34 (by decide) ?_
        exact hr_sub _ rfl (J12 _ (by first | (rw [if_neg c14]; done) | (simp only [if_neg c14]; done) | rfl))
set_option maxRecDepth 20000 in
set_option maxHeartbeats 4000000 in
theorem okX21_mainFunction (l : Launch) (E : hc_E) (A : Nat → Prop) (d : Nat) (n : Nat) (hD : 11 ≤ d)  {σ : hc_St} {r : Int32} (h : fm_X21_mainFunction n  σ = some r) (am : Nat → Nat → Nat) : hc_M l hc_V0 yX21_mainFunction (ws_ yX21_mainFunction cX21_mainFunction 3 (some .int)) d E A [.ref (E.2.1 23)] am [] σ (.inl (some (.int r))) σ := by
  have hd1 : 1 ≤ d := by omega
  have hd8 : 9 ≤ d := by omega
  refine hc_enter2 (own := RX21) [(0, .ref (E.2.1 23))] pl_X21 rfl hc_V0_st hc_G0_nd rfl (Nat.le_of_ble_eq_true rfl) (fun X hC hem => ?_)
  unfold fm_X21_mainFunction at h
  refine hr_iconst (v := (-1)) hC dX21_mainFunction_0 rfl ?_
  refine hr_istore_n hC dX21_mainFunction_1 (by decide) ?_
  refine hr_iconst (v := 0) hC dX21_mainFunction_2 rfl ?_
  refine hr_istore_n hC dX21_mainFunction_3 (by decide) ?_
  obtain ⟨r15, e16, h⟩ := hx_bind h
  refine hr_sub _ rfl (ll_X21_mainFunction_4 n hD hem hC n _ _ _ _ am e16 ?_)
  refine hr_iload_n hC dX21_mainFunction_45 rfl ?_
  obtain rfl := Option.some.inj h
  exact hr_iret hC dX21_mainFunction_46
/-- HomeCompilerModel.stop(I)V -/
def fm_X21_stop  (x1 : Int32) (σ : hc_St) : Option hc_St := hl (pI σ 23 77 x1) fun σ1 => some σ1
set_option maxRecDepth 20000 in
set_option maxHeartbeats 4000000 in
theorem okX21_stop (l : Launch) (E : hc_E) (A : Nat → Prop) (d : Nat)  (hD : 1 ≤ d) {x1 : Int32} {σ : hc_St} {r : hc_St} (h : fm_X21_stop  x1 σ = some r) (am : Nat → Nat → Nat) : hc_M l hc_V0 yX21_stop (ws_ yX21_stop cX21_stop 2 none) d E A [.ref (E.2.1 23), .int x1] am [] σ (.inl none) r := by
  have hd1 : 1 ≤ d := by omega
  refine hc_enter2 (own := RX21) [(0, .ref (E.2.1 23)), (1, .int x1)] pl_X21 rfl hc_V0_st hc_G0_nd rfl (Nat.le_of_ble_eq_true rfl) (fun X hC hem => ?_)
  unfold fm_X21_stop at h
  refine hr_aload_n hC dX21_stop_0 rfl ?_
  refine hr_iload_n hC dX21_stop_1 rfl ?_
  obtain ⟨σ1, hσ1, h⟩ := hl_ok h
  refine hr_pI hC F23_77 PX21_77 dX21_stop_2 q2918 ?_
  rw [← hσ1]
  obtain rfl := Option.some.inj h
  exact hr_vret hC dX21_stop_5
/-- HomeCompilerModel.takesWork()Z -/
def fm_X21_takesWork   (σ : hc_St) : Option (Int32 × hc_St) := if (gI σ 23 79) = 0 then (Option.bind (fm_X21_stop 5 σ) fun r4 => some (0, r4)) else (hl (pI σ 23 79 ((((gI σ 23 79)) - 1))) fun σ3 => some (1, σ3))
set_option maxRecDepth 20000 in
set_option maxHeartbeats 4000000 in
theorem okX21_takesWork (l : Launch) (E : hc_E) (A : Nat → Prop) (d : Nat)  (hD : 2 ≤ d)  {σ : hc_St} {r : (Int32 × hc_St)} (h : fm_X21_takesWork   σ = some r) (am : Nat → Nat → Nat) : hc_M l hc_V0 yX21_takesWork (ws_ yX21_takesWork cX21_takesWork 1 (some .boolean)) d E A [.ref (E.2.1 23)] am [] σ (.inl (some (.int r.1))) r.2 := by
  have hd1 : 1 ≤ d := by omega
  refine hc_enter2 (own := RX21) [(0, .ref (E.2.1 23))] pl_X21 rfl hc_V0_st hc_G0_nd rfl (Nat.le_of_ble_eq_true rfl) (fun X hC hem => ?_)
  unfold fm_X21_takesWork at h
  refine hr_aload_n hC dX21_takesWork_0 rfl ?_
  refine hr_gI hC F23_79 dX21_takesWork_1 q2920 ?_
  refine hr_if_ne (x := _) hC 14 dX21_takesWork_4 (by decide) (fun c2 => ?_) (fun c2 => ?_)
  · rw [if_neg c2] at h
    refine hr_aload_n hC dX21_takesWork_14 rfl ?_
    refine hr_dup hC dX21_takesWork_15 rfl ?_
    refine hr_gI hC F23_79 dX21_takesWork_16 q2920 ?_
    refine hr_iconst (v := 1) hC dX21_takesWork_19 rfl ?_
    refine hr_isub hC dX21_takesWork_20 ?_
    obtain ⟨σ3, hσ3, h⟩ := hl_ok h
    refine hr_pI hC F23_79 PX21_79 dX21_takesWork_21 q2920 ?_
    rw [← hσ3]
    refine hr_iconst (v := 1) hC dX21_takesWork_24 rfl ?_
    obtain rfl := Option.some.inj h
    exact hr_zret hC rfl dX21_takesWork_25
  · rw [if_pos c2] at h
    refine hr_aload_n hC dX21_takesWork_7 rfl ?_
    refine hr_iconst (v := 5) hC dX21_takesWork_8 rfl ?_
    obtain ⟨r4, e5, h⟩ := hx_bind h
    refine hs_callV0 hC 23 [_] _ dX21_takesWork_9 q3587 q3589 qs281 q335 q3590 np_X21 rfl OB_23 pd_X21_stop (Nat.le_of_ble_eq_true rfl) hd1 (okX21_stop l E A (d - 1)  (by omega)  e5 am) rfl ?_
    refine hr_iconst (v := 0) hC dX21_takesWork_12 rfl ?_
    obtain rfl := Option.some.inj h
    exact hr_zret hC rfl dX21_takesWork_13
/-- HomeCompilerModel.isGiven(I)Z -/
def fm_X21_isGiven  (x1 : Int32) (σ : hc_St) : Option Int32 := hk (inb x1 (gL σ 23 54)) <| hl (α := Int32) ((if (gC σ 23 54 x1).toInt8.toInt32 < 4 then 0 else 1)) fun v4 => hk (hb01 v4) <| some v4
set_option maxRecDepth 20000 in
set_option maxHeartbeats 4000000 in
theorem okX21_isGiven (l : Launch) (E : hc_E) (A : Nat → Prop) (d : Nat)  (hD : 1 ≤ d) {x1 : Int32} {σ : hc_St} {r : Int32} (h : fm_X21_isGiven  x1 σ = some r) (am : Nat → Nat → Nat) : hc_M l hc_V0 yX21_isGiven (ws_ yX21_isGiven cX21_isGiven 2 (some .boolean)) d E A [.ref (E.2.1 23), .int x1] am [] σ (.inl (some (.int r))) σ := by
  have hd1 : 1 ≤ d := by omega
  refine hc_enter2 (own := RX21) [(0, .ref (E.2.1 23)), (1, .int x1)] pl_X21 rfl hc_V0_st hc_G0_nd rfl (Nat.le_of_ble_eq_true rfl) (fun X hC hem => ?_)
  unfold fm_X21_isGiven at h
  refine hr_aload_n hC dX21_isGiven_0 rfl ?_
  refine hr_gA hC F23_54 rfl dX21_isGiven_1 q2895 ?_
  refine hr_iload_n hC dX21_isGiven_4 rfl ?_
  obtain ⟨c1, h⟩ := hk_ok h
  refine hs_bald hC A23_54 c1 dX21_isGiven_5 ?_
  refine hr_iconst (v := 4) hC dX21_isGiven_6 rfl ?_
  obtain ⟨v4, hv4, h⟩ := hl_ok h
  have J6 : ∀ w7 : Int32, (if (gC σ 23 54 x1).toInt8.toInt32 < 4 then 0 else 1) = w7 → hc_At hc_V0 E 2 X 15 [] [.int w7] σ am [] := by
    intro w7 hw7
    obtain rfl := hv4.trans hw7
    obtain ⟨c5, h⟩ := hk_ok h
    obtain rfl := Option.some.inj h
    exact hr_zret hC (hb01_n c5) dX21_isGiven_15
  refine hr_icmp_lt (x := _) hC 14 dX21_isGiven_7 (by decide) (fun c8 => ?_) (fun c8 => ?_)
  · refine hr_iconst (v := 0) hC dX21_isGiven_14 rfl ?_
    exact hr_sub _ rfl (J6 _ (by first | (rw [if_pos c8]; done) | (simp only [if_pos c8]; done) | rfl))
  · refine hr_iconst (v := 1) hC dX21_isGiven_10 rfl ?_
    refine hr_goto hC 15 dX21_isGiven_11 (by decide) ?_
    exact hr_sub _ rfl (J6 _ (by first | (rw [if_neg c8]; done) | (simp only [if_neg c8]; done) | rfl))
/-- HomeCompilerModel.push(I)V -/
def fm_X21_push  (x1 : Int32) (σ : hc_St) : Option hc_St := hk (inb ((gI σ 23 69)) (gL σ 23 70)) <| hl (pC σ 23 70 ((gI σ 23 69)) x1) fun σ2 => hk (inb ((gI σ2 23 69)) (gL σ2 23 71)) <| hl (pC σ2 23 71 ((gI σ2 23 69)) 0) fun σ4 => hl (pI σ4 23 69 ((((gI σ4 23 69)) + 1))) fun σ5 => some σ5
set_option maxRecDepth 20000 in
set_option maxHeartbeats 4000000 in
theorem okX21_push (l : Launch) (E : hc_E) (A : Nat → Prop) (d : Nat)  (hD : 1 ≤ d) {x1 : Int32} {σ : hc_St} {r : hc_St} (h : fm_X21_push  x1 σ = some r) (am : Nat → Nat → Nat) : hc_M l hc_V0 yX21_push (ws_ yX21_push cX21_push 2 none) d E A [.ref (E.2.1 23), .int x1] am [] σ (.inl none) r := by
  have hd1 : 1 ≤ d := by omega
  refine hc_enter2 (own := RX21) [(0, .ref (E.2.1 23)), (1, .int x1)] pl_X21 rfl hc_V0_st hc_G0_nd rfl (Nat.le_of_ble_eq_true rfl) (fun X hC hem => ?_)
  unfold fm_X21_push at h
  refine hr_aload_n hC dX21_push_0 rfl ?_
  refine hr_gA hC F23_70 rfl dX21_push_1 q2911 ?_
  refine hr_aload_n hC dX21_push_4 rfl ?_
  refine hr_gI hC F23_69 dX21_push_5 q2910 ?_
  refine hr_iload_n hC dX21_push_8 rfl ?_
  obtain ⟨c1, h⟩ := hk_ok h
  obtain ⟨σ2, hσ2, h⟩ := hl_ok h
  refine hs_iast hC A23_70 c1 dX21_push_9 ?_
  rw [← hσ2]
  refine hr_aload_n hC dX21_push_10 rfl ?_
  refine hr_gA hC F23_71 rfl dX21_push_11 q2912 ?_
  refine hr_aload_n hC dX21_push_14 rfl ?_
  refine hr_gI hC F23_69 dX21_push_15 q2910 ?_
  refine hr_iconst (v := 0) hC dX21_push_18 rfl ?_
  obtain ⟨c3, h⟩ := hk_ok h
  obtain ⟨σ4, hσ4, h⟩ := hl_ok h
  refine hs_iast hC A23_71 c3 dX21_push_19 ?_
  rw [← hσ4]
  refine hr_aload_n hC dX21_push_20 rfl ?_
  refine hr_dup hC dX21_push_21 rfl ?_
  refine hr_gI hC F23_69 dX21_push_22 q2910 ?_
  refine hr_iconst (v := 1) hC dX21_push_25 rfl ?_
  refine hr_iadd hC dX21_push_26 ?_
  obtain ⟨σ5, hσ5, h⟩ := hl_ok h
  refine hr_pI hC F23_69 PX21_69 dX21_push_27 q2910 ?_
  rw [← hσ5]
  obtain rfl := Option.some.inj h
  exact hr_vret hC dX21_push_30
def lp_X21_enter_113 (n : Nat) : Nat → Int32 → Int32 → Int32 → hc_St → Option (hc_St)
  | 0, _, _, _, _ => none
  | m + 1, y1, y2, y3, σ => if (gI σ 23 68) ≤ y3 then (some (σ)) else (hk (inb y3 (gL σ 23 66)) <| hl (pC σ 23 66 y3 0) fun σ24 => lp_X21_enter_113 n m y1 y2 ((y3 + 1)) σ24)
def lp_X21_enter_144 (n : Nat) : Nat → Int32 → Int32 → Int32 → Int32 → hc_St → Option (Int32)
  | 0, _, _, _, _, _ => none
  | m + 1, y1, y2, y3, y4, σ => if y4 < 0 then (some (y3)) else (hk (inb y4 (gL σ 23 22)) <| Option.bind (fm_X21_isGiven ((gC σ 23 22 y4)) σ) fun r34 => hl (α := Int32) ((if r34 = 0 then 1 else 2)) fun v40 => hk (inb y4 (gL σ 23 25)) <| lp_X21_enter_144 n m y1 y2 ((y3 + v40)) ((gC σ 23 25 y4)) σ)
def lp_X21_enter_205 (n : Nat) : Nat → Int32 → Int32 → Int32 → Int32 → hc_St → Option (hc_St)
  | 0, _, _, _, _, _ => none
  | m + 1, y1, y2, y4, y5, σ => if y5 < 0 then (some (σ)) else (hk (inb y5 (gL σ 23 22)) <| Option.bind (fm_X21_cellOf ((gC σ 23 22 y5)) σ) fun r55 => hk (inb y5 (gL σ 23 22)) <| Option.bind (fm_X21_isGiven ((gC σ 23 22 y5)) σ) fun r60 => Option.bind (α := hc_St × Int32) (if r60 = 0 then (hk (inb y5 (gL σ 23 22)) <| hk (inb y4 (gL σ 23 73)) <| Option.bind (fm_X21_stored ((gC σ 23 22 y5)) ((gC σ 23 73 y4)) σ) fun r72 => hk (inb r55 (gL σ 23 66)) <| hl (pC σ 23 66 r55 r72) fun σ77 => some (σ77, (y4 + 1))) else (hk (inb y4 (gL σ 23 73)) <| hk (inb r55 (gL σ 23 66)) <| hl (pC σ 23 66 r55 ((gC σ 23 73 y4))) fun σ80 => hk (inb ((y4 + 1)) (gL σ80 23 73)) <| hk (inb ((r55 + 1)) (gL σ80 23 66)) <| hl (pC σ80 23 66 ((r55 + 1)) ((gC σ80 23 73 ((y4 + 1))))) fun σ83 => some (σ83, (y4 + 2)))) fun r66 => hk (inb y5 (gL r66.1 23 25)) <| lp_X21_enter_205 n m y1 y2 r66.2 ((gC r66.1 23 25 y5)) r66.1)
/-- HomeCompilerModel.enter(I)V -/
def fm_X21_enter (n : Nat) (x1 : Int32) (σ : hc_St) : Option hc_St := hk (inb x1 (gL σ 23 44)) <| Option.bind (fm_X21_takesWork  σ) fun r2 => if r2.1 = 0 then (some r2.2) else (hk (inb x1 (gL r2.2 23 45)) <| if (gC r2.2 23 45 x1) ≤ (gI r2.2 23 80) then (hk (inb x1 (gL r2.2 23 45)) <| hl (pI r2.2 23 80 ((((gI r2.2 23 80)) - ((gC r2.2 23 45 x1))))) fun σ12 => hk (inb ((gI σ12 23 74)) (gL σ12 23 75)) <| hl (pC σ12 23 75 ((gI σ12 23 74)) ((gI σ12 23 67))) fun σ14 => hk (inb ((gI σ14 23 74)) (gL σ14 23 76)) <| hl (pC σ14 23 76 ((gI σ14 23 74)) ((gI σ14 23 68))) fun σ16 => hl (pI σ16 23 74 ((((gI σ16 23 74)) + 1))) fun σ17 => hl (pI σ17 23 67 ((gI σ17 23 68))) fun σ18 => hk (inb x1 (gL σ18 23 61)) <| hl (pI σ18 23 68 ((((gI σ18 23 68)) + ((gC σ18 23 61 x1))))) fun σ20 => Option.bind (lp_X21_enter_113 n n x1 ((gC σ 23 44 x1)) ((gI σ20 23 67)) σ20) fun r25 => hk (inb ((gC σ 23 44 x1)) (gL r25 23 21)) <| Option.bind (lp_X21_enter_144 n n x1 ((gC σ 23 44 x1)) 0 ((gC r25 23 21 ((gC σ 23 44 x1)))) r25) fun r45 => hl (pI r25 23 72 ((((gI r25 23 72)) - r45))) fun σ50 => hk (inb ((gC σ 23 44 x1)) (gL σ50 23 21)) <| Option.bind (lp_X21_enter_205 n n x1 ((gC σ 23 44 x1)) ((((gI r25 23 72)) - r45)) ((gC σ50 23 21 ((gC σ 23 44 x1)))) σ50) fun r85 => Option.bind (fm_X21_push ((gC σ 23 44 x1)) r85) fun r90 => hk (inb ((((gI r90 23 69)) - 1)) (gL r90 23 71)) <| hl (pC r90 23 71 ((((gI r90 23 69)) - 1)) ((x1 + 1))) fun σ95 => hk (inb ((gC σ 23 44 x1)) (gL σ95 23 22)) <| Option.bind (fm_X21_push ((gC σ95 23 22 ((gC σ 23 44 x1)))) σ95) fun r97 => some r97) else (Option.bind (fm_X21_stop 4 r2.2) fun r101 => some r101))
set_option maxRecDepth 20000 in
set_option maxHeartbeats 4000000 in
theorem ll_X21_enter_113 {l : Launch} {E : hc_E} {A : Nat → Prop} {am : Nat → Nat → Nat} {d : Nat} {X : hc_X} (n : Nat) (hD : 3 ≤ d) (hem : X.2.2.2.2.2.2.2.2.2.1.exceptionTable.isEmpty = true) {oc : hc_Oc} {σe : hc_St} (hC : hc_C hc_V0 E cX21_enter 7 RX21 none d oc σe (l, A, am, []) X) : ∀ (m : Nat) (σ : hc_St) (y1 : Int32) (y2 : Int32) (y3 : Int32) (rl : hc_St) (am1 : Nat → Nat → Nat), lp_X21_enter_113 n m y1 y2 y3 σ = some rl → (hc_At hc_V0 E 7 X 134 [(0, .ref (E.2.1 23)), (1, .int y1), (2, .int y2)] [] rl am1 []) → hc_At hc_V0 E 7 X 113 [(0, .ref (E.2.1 23)), (1, .int y1), (2, .int y2), (3, .int y3)] [] σ am1 [] := by
  have hd1 : 1 ≤ d := by omega
  intro m
  induction m with
  | zero =>
    intro σ y1 y2 y3 rl am1 h
    cases h
  | succ m ih =>
    intro σ y1 y2 y3 rl am1 h JX
    rw [lp_X21_enter_113] at h
    refine hr_iload_n hC dX21_enter_113 rfl ?_
    refine hr_aload_n hC dX21_enter_114 rfl ?_
    refine hr_gI hC F23_68 dX21_enter_115 q2909 ?_
    refine hr_icmp_ge (x := _) hC 134 dX21_enter_118 (by decide) (fun c22 => ?_) (fun c22 => ?_)
    · rw [if_pos c22] at h
      obtain rfl := Option.some.inj h
      exact hr_sub _ rfl (JX)
    · rw [if_neg c22] at h
      refine hr_aload_n hC dX21_enter_121 rfl ?_
      refine hr_gA hC F23_66 rfl dX21_enter_122 q2907 ?_
      refine hr_iload_n hC dX21_enter_125 rfl ?_
      refine hr_iconst (v := 0) hC dX21_enter_126 rfl ?_
      obtain ⟨c23, h⟩ := hk_ok h
      obtain ⟨σ24, hσ24, h⟩ := hl_ok h
      refine hs_iast hC A23_66 c23 dX21_enter_127 ?_
      rw [← hσ24]
      refine hr_iinc (v := y3 + 1) hC dX21_enter_128 rfl rfl (by decide) ?_
      refine hr_goto hC 113 dX21_enter_131 (by decide) ?_
      exact hr_sub _ rfl (ih _ _ _ _ _ am1 h JX)
set_option maxRecDepth 20000 in
set_option maxHeartbeats 4000000 in
theorem ll_X21_enter_144 {l : Launch} {E : hc_E} {A : Nat → Prop} {am : Nat → Nat → Nat} {d : Nat} {X : hc_X} (n : Nat) (hD : 3 ≤ d) (hem : X.2.2.2.2.2.2.2.2.2.1.exceptionTable.isEmpty = true) {oc : hc_Oc} {σe : hc_St} (hC : hc_C hc_V0 E cX21_enter 7 RX21 none d oc σe (l, A, am, []) X) : ∀ (m : Nat) (σ : hc_St) (y1 : Int32) (y2 : Int32) (y3 : Int32) (y4 : Int32) (rl : Int32) (am1 : Nat → Nat → Nat), lp_X21_enter_144 n m y1 y2 y3 y4 σ = some rl → (hc_At hc_V0 E 7 X 183 [(0, .ref (E.2.1 23)), (1, .int y1), (2, .int y2), (3, .int rl)] [] σ am1 []) → hc_At hc_V0 E 7 X 144 [(0, .ref (E.2.1 23)), (1, .int y1), (2, .int y2), (3, .int y3), (4, .int y4)] [] σ am1 [] := by
  have hd1 : 1 ≤ d := by omega
  intro m
  induction m with
  | zero =>
    intro σ y1 y2 y3 y4 rl am1 h
    cases h
  | succ m ih =>
    intro σ y1 y2 y3 y4 rl am1 h JX
    rw [lp_X21_enter_144] at h
    refine hr_iload hC dX21_enter_144 rfl ?_
    refine hr_if_lt (x := _) hC 183 dX21_enter_146 (by decide) (fun c32 => ?_) (fun c32 => ?_)
    · rw [if_pos c32] at h
      obtain rfl := Option.some.inj h
      exact hr_sub _ rfl (JX)
    · rw [if_neg c32] at h
      refine hr_iload_n hC dX21_enter_149 rfl ?_
      refine hr_aload_n hC dX21_enter_150 rfl ?_
      refine hr_aload_n hC dX21_enter_151 rfl ?_
      refine hr_gA hC F23_22 rfl dX21_enter_152 q2864 ?_
      refine hr_iload hC dX21_enter_155 rfl ?_
      obtain ⟨c33, h⟩ := hk_ok h
      refine hs_iald hC A23_22 c33 dX21_enter_157 ?_
      obtain ⟨r34, e35, h⟩ := hx_bind h
      refine hs_callV0 hC 23 [_] _ dX21_enter_158 q3591 q3593 qs282 q335 q3594 np_X21 rfl OB_23 pd_X21_isGiven (Nat.le_of_ble_eq_true rfl) hd1 (okX21_isGiven l E A (d - 1)  (by omega)  e35 am1) rfl ?_
      obtain ⟨v40, hv40, h⟩ := hl_ok h
      have J42 : ∀ w43 : Int32, (if r34 = 0 then 1 else 2) = w43 → hc_At hc_V0 E 7 X 169 [(0, .ref (E.2.1 23)), (1, .int y1), (2, .int y2), (4, .int y4)] [.int w43, .int y3] σ am1 [] := by
        intro w43 hw43
        obtain rfl := hv40.trans hw43
        refine hr_iadd hC dX21_enter_169 ?_
        refine hr_istore_n hC dX21_enter_170 (by decide) ?_
        refine hr_aload_n hC dX21_enter_171 rfl ?_
        refine hr_gA hC F23_25 rfl dX21_enter_172 q2867 ?_
        refine hr_iload hC dX21_enter_175 rfl ?_
        obtain ⟨c41, h⟩ := hk_ok h
        refine hs_iald hC A23_25 c41 dX21_enter_177 ?_
        refine hr_istore hC dX21_enter_178 (by decide) ?_
        refine hr_goto hC 144 dX21_enter_180 (by decide) ?_
        exact hr_sub _ rfl (ih _ _ _ _ _ _ am1 h JX)
      refine hr_if_eq (x := _) hC 168 dX21_enter_161 (by decide) (fun c44 => ?_) (fun c44 => ?_)
      · refine hr_iconst (v := 1) hC dX21_enter_168 rfl ?_
        exact hr_sub _ rfl (J42 _ (by first | (rw [if_pos c44]; done) | (simp only [if_pos c44]; done) | rfl))
      · refine hr_iconst (v := 2) hC dX21_enter_164 rfl ?_
        refine hr_goto hC 169 dX21_enter_165 (by decide) ?_
        exact hr_sub _ rfl (J42 _ (by first | (rw [if_neg c44]; done) | (simp only [if_neg c44]; done) | rfl))
set_option maxRecDepth 20000 in
set_option maxHeartbeats 4000000 in
theorem ll_X21_enter_205 {l : Launch} {E : hc_E} {A : Nat → Prop} {am : Nat → Nat → Nat} {d : Nat} {X : hc_X} (n : Nat) (hD : 3 ≤ d) (hem : X.2.2.2.2.2.2.2.2.2.1.exceptionTable.isEmpty = true) {oc : hc_Oc} {σe : hc_St} (hC : hc_C hc_V0 E cX21_enter 7 RX21 none d oc σe (l, A, am, []) X) : ∀ (m : Nat) (σ : hc_St) (y1 : Int32) (y2 : Int32) (y4 : Int32) (y5 : Int32) (rl : hc_St) (am1 : Nat → Nat → Nat), lp_X21_enter_205 n m y1 y2 y4 y5 σ = some rl → (hc_At hc_V0 E 7 X 315 [(0, .ref (E.2.1 23)), (1, .int y1), (2, .int y2)] [] rl am1 []) → hc_At hc_V0 E 7 X 205 [(0, .ref (E.2.1 23)), (1, .int y1), (2, .int y2), (4, .int y4), (5, .int y5)] [] σ am1 [] := by
  have hd1 : 1 ≤ d := by omega
  intro m
  induction m with
  | zero =>
    intro σ y1 y2 y4 y5 rl am1 h
    cases h
  | succ m ih =>
    intro σ y1 y2 y4 y5 rl am1 h JX
    rw [lp_X21_enter_205] at h
    refine hr_iload hC dX21_enter_205 rfl ?_
    refine hr_if_lt (x := _) hC 315 dX21_enter_207 (by decide) (fun c53 => ?_) (fun c53 => ?_)
    · rw [if_pos c53] at h
      obtain rfl := Option.some.inj h
      exact hr_sub _ rfl (JX)
    · rw [if_neg c53] at h
      refine hr_aload_n hC dX21_enter_210 rfl ?_
      refine hr_aload_n hC dX21_enter_211 rfl ?_
      refine hr_gA hC F23_22 rfl dX21_enter_212 q2864 ?_
      refine hr_iload hC dX21_enter_215 rfl ?_
      obtain ⟨c54, h⟩ := hk_ok h
      refine hs_iald hC A23_22 c54 dX21_enter_217 ?_
      obtain ⟨r55, e56, h⟩ := hx_bind h
      refine hs_callV0 hC 23 [_] _ dX21_enter_218 q3559 q3561 qs274 q335 q3562 np_X21 rfl OB_23 pd_X21_cellOf (Nat.le_of_ble_eq_true rfl) hd1 (okX21_cellOf l E A (d - 1)  (by omega)  e56 am1) rfl ?_
      refine hr_istore hC dX21_enter_221 (by decide) ?_
      refine hr_aload_n hC dX21_enter_223 rfl ?_
      refine hr_aload_n hC dX21_enter_224 rfl ?_
      refine hr_gA hC F23_22 rfl dX21_enter_225 q2864 ?_
      refine hr_iload hC dX21_enter_228 rfl ?_
      obtain ⟨c59, h⟩ := hk_ok h
      refine hs_iald hC A23_22 c59 dX21_enter_230 ?_
      obtain ⟨r60, e61, h⟩ := hx_bind h
      refine hs_callV0 hC 23 [_] _ dX21_enter_231 q3591 q3593 qs282 q335 q3594 np_X21 rfl OB_23 pd_X21_isGiven (Nat.le_of_ble_eq_true rfl) hd1 (okX21_isGiven l E A (d - 1)  (by omega)  e61 am1) rfl ?_
      obtain ⟨r66, e67, h⟩ := hx_bind h
      have J68 : hc_At hc_V0 E 7 X 303 [(0, .ref (E.2.1 23)), (1, .int y1), (2, .int y2), (4, .int r66.2), (5, .int y5)] [] r66.1 am1 [] := by
        refine hr_aload_n hC dX21_enter_303 rfl ?_
        refine hr_gA hC F23_25 rfl dX21_enter_304 q2867 ?_
        refine hr_iload hC dX21_enter_307 rfl ?_
        obtain ⟨c84, h⟩ := hk_ok h
        refine hs_iald hC A23_25 c84 dX21_enter_309 ?_
        refine hr_istore hC dX21_enter_310 (by decide) ?_
        refine hr_goto hC 205 dX21_enter_312 (by decide) ?_
        exact hr_sub _ rfl (ih _ _ _ _ _ _ am1 h JX)
      clear h
      have h := e67
      refine hr_if_eq (x := _) hC 275 dX21_enter_234 (by decide) (fun c65 => ?_) (fun c65 => ?_)
      · rw [if_pos c65] at h
        refine hr_aload_n hC dX21_enter_275 rfl ?_
        refine hr_gA hC F23_66 rfl dX21_enter_276 q2907 ?_
        refine hr_iload hC dX21_enter_279 rfl ?_
        refine hr_aload_n hC dX21_enter_281 rfl ?_
        refine hr_aload_n hC dX21_enter_282 rfl ?_
        refine hr_gA hC F23_22 rfl dX21_enter_283 q2864 ?_
        refine hr_iload hC dX21_enter_286 rfl ?_
        obtain ⟨c70, h⟩ := hk_ok h
        refine hs_iald hC A23_22 c70 dX21_enter_288 ?_
        refine hr_aload_n hC dX21_enter_289 rfl ?_
        refine hr_gA hC F23_73 rfl dX21_enter_290 q2914 ?_
        refine hr_iload hC dX21_enter_293 rfl ?_
        obtain ⟨c71, h⟩ := hk_ok h
        refine hs_iald hC A23_73 c71 dX21_enter_295 ?_
        obtain ⟨r72, e73, h⟩ := hx_bind h
        refine hs_callV0 hC 23 [_, _] _ dX21_enter_296 q3563 q3565 qs275 q335 q3566 np_X21 rfl OB_23 pd_X21_stored (Nat.le_of_ble_eq_true rfl) hd1 (okX21_stored l E A (d - 1)  (by omega)  e73 am1) rfl ?_
        obtain ⟨c76, h⟩ := hk_ok h
        obtain ⟨σ77, hσ77, h⟩ := hl_ok h
        refine hs_iast hC A23_66 c76 dX21_enter_299 ?_
        rw [← hσ77]
        refine hr_iinc (v := y4 + 1) hC dX21_enter_300 rfl rfl (by decide) ?_
        obtain rfl := Option.some.inj h
        exact hr_sub _ rfl (J68)
      · rw [if_neg c65] at h
        refine hr_aload_n hC dX21_enter_237 rfl ?_
        refine hr_gA hC F23_66 rfl dX21_enter_238 q2907 ?_
        refine hr_iload hC dX21_enter_241 rfl ?_
        refine hr_aload_n hC dX21_enter_243 rfl ?_
        refine hr_gA hC F23_73 rfl dX21_enter_244 q2914 ?_
        refine hr_iload hC dX21_enter_247 rfl ?_
        obtain ⟨c78, h⟩ := hk_ok h
        refine hs_iald hC A23_73 c78 dX21_enter_249 ?_
        obtain ⟨c79, h⟩ := hk_ok h
        obtain ⟨σ80, hσ80, h⟩ := hl_ok h
        refine hs_iast hC A23_66 c79 dX21_enter_250 ?_
        rw [← hσ80]
        refine hr_aload_n hC dX21_enter_251 rfl ?_
        refine hr_gA hC F23_66 rfl dX21_enter_252 q2907 ?_
        refine hr_iload hC dX21_enter_255 rfl ?_
        refine hr_iconst (v := 1) hC dX21_enter_257 rfl ?_
        refine hr_iadd hC dX21_enter_258 ?_
        refine hr_aload_n hC dX21_enter_259 rfl ?_
        refine hr_gA hC F23_73 rfl dX21_enter_260 q2914 ?_
        refine hr_iload hC dX21_enter_263 rfl ?_
        refine hr_iconst (v := 1) hC dX21_enter_265 rfl ?_
        refine hr_iadd hC dX21_enter_266 ?_
        obtain ⟨c81, h⟩ := hk_ok h
        refine hs_iald hC A23_73 c81 dX21_enter_267 ?_
        obtain ⟨c82, h⟩ := hk_ok h
        obtain ⟨σ83, hσ83, h⟩ := hl_ok h
        refine hs_iast hC A23_66 c82 dX21_enter_268 ?_
        rw [← hσ83]
        refine hr_iinc (v := y4 + 2) hC dX21_enter_269 rfl rfl (by decide) ?_
        refine hr_goto hC 303 dX21_enter_272 (by decide) ?_
        obtain rfl := Option.some.inj h
        exact hr_sub _ rfl (J68)
set_option maxRecDepth 20000 in
set_option maxHeartbeats 4000000 in
theorem okX21_enter (l : Launch) (E : hc_E) (A : Nat → Prop) (d : Nat) (n : Nat) (hD : 3 ≤ d) {x1 : Int32} {σ : hc_St} {r : hc_St} (h : fm_X21_enter n x1 σ = some r) (am : Nat → Nat → Nat) : hc_M l hc_V0 yX21_enter (ws_ yX21_enter cX21_enter 7 none) d E A [.ref (E.2.1 23), .int x1] am [] σ (.inl none) r := by
  have hd1 : 1 ≤ d := by omega
  refine hc_enter2 (own := RX21) [(0, .ref (E.2.1 23)), (1, .int x1)] pl_X21 rfl hc_V0_st hc_G0_nd rfl (Nat.le_of_ble_eq_true rfl) (fun X hC hem => ?_)
  unfold fm_X21_enter at h
  refine hr_aload_n hC dX21_enter_0 rfl ?_
  refine hr_gA hC F23_44 rfl dX21_enter_1 q2885 ?_
  refine hr_iload_n hC dX21_enter_4 rfl ?_
  obtain ⟨c1, h⟩ := hk_ok h
  refine hs_iald hC A23_44 c1 dX21_enter_5 ?_
  refine hr_istore_n hC dX21_enter_6 (by decide) ?_
  refine hr_aload_n hC dX21_enter_7 rfl ?_
  obtain ⟨r2, e3, h⟩ := hx_bind h
  refine hs_callV0 hC 23 [] _ dX21_enter_8 q3583 q3585 qs280 q335 q3586 np_X21 rfl OB_23 pd_X21_takesWork (Nat.le_of_ble_eq_true rfl) hd1 (okX21_takesWork l E A (d - 1)  (by omega)  e3 am) rfl ?_
  refine hr_if_ne (x := _) hC 15 dX21_enter_11 (by decide) (fun c7 => ?_) (fun c7 => ?_)
  · rw [if_neg c7] at h
    refine hr_aload_n hC dX21_enter_15 rfl ?_
    refine hr_gI hC F23_80 dX21_enter_16 q2921 ?_
    refine hr_aload_n hC dX21_enter_19 rfl ?_
    refine hr_gA hC F23_45 rfl dX21_enter_20 q2886 ?_
    refine hr_iload_n hC dX21_enter_23 rfl ?_
    obtain ⟨c8, h⟩ := hk_ok h
    refine hs_iald hC A23_45 c8 dX21_enter_24 ?_
    refine hr_icmp_ge (x := _) hC 34 dX21_enter_25 (by decide) (fun c10 => ?_) (fun c10 => ?_)
    · rw [if_pos c10] at h
      refine hr_aload_n hC dX21_enter_34 rfl ?_
      refine hr_aload_n hC dX21_enter_35 rfl ?_
      refine hr_gI hC F23_80 dX21_enter_36 q2921 ?_
      refine hr_aload_n hC dX21_enter_39 rfl ?_
      refine hr_gA hC F23_45 rfl dX21_enter_40 q2886 ?_
      refine hr_iload_n hC dX21_enter_43 rfl ?_
      obtain ⟨c11, h⟩ := hk_ok h
      refine hs_iald hC A23_45 c11 dX21_enter_44 ?_
      refine hr_isub hC dX21_enter_45 ?_
      obtain ⟨σ12, hσ12, h⟩ := hl_ok h
      refine hr_pI hC F23_80 PX21_80 dX21_enter_46 q2921 ?_
      rw [← hσ12]
      refine hr_aload_n hC dX21_enter_49 rfl ?_
      refine hr_gA hC F23_75 rfl dX21_enter_50 q2916 ?_
      refine hr_aload_n hC dX21_enter_53 rfl ?_
      refine hr_gI hC F23_74 dX21_enter_54 q2915 ?_
      refine hr_aload_n hC dX21_enter_57 rfl ?_
      refine hr_gI hC F23_67 dX21_enter_58 q2908 ?_
      obtain ⟨c13, h⟩ := hk_ok h
      obtain ⟨σ14, hσ14, h⟩ := hl_ok h
      refine hs_iast hC A23_75 c13 dX21_enter_61 ?_
      rw [← hσ14]
      refine hr_aload_n hC dX21_enter_62 rfl ?_
      refine hr_gA hC F23_76 rfl dX21_enter_63 q2917 ?_
      refine hr_aload_n hC dX21_enter_66 rfl ?_
      refine hr_gI hC F23_74 dX21_enter_67 q2915 ?_
      refine hr_aload_n hC dX21_enter_70 rfl ?_
      refine hr_gI hC F23_68 dX21_enter_71 q2909 ?_
      obtain ⟨c15, h⟩ := hk_ok h
      obtain ⟨σ16, hσ16, h⟩ := hl_ok h
      refine hs_iast hC A23_76 c15 dX21_enter_74 ?_
      rw [← hσ16]
      refine hr_aload_n hC dX21_enter_75 rfl ?_
      refine hr_dup hC dX21_enter_76 rfl ?_
      refine hr_gI hC F23_74 dX21_enter_77 q2915 ?_
      refine hr_iconst (v := 1) hC dX21_enter_80 rfl ?_
      refine hr_iadd hC dX21_enter_81 ?_
      obtain ⟨σ17, hσ17, h⟩ := hl_ok h
      refine hr_pI hC F23_74 PX21_74 dX21_enter_82 q2915 ?_
      rw [← hσ17]
      refine hr_aload_n hC dX21_enter_85 rfl ?_
      refine hr_aload_n hC dX21_enter_86 rfl ?_
      refine hr_gI hC F23_68 dX21_enter_87 q2909 ?_
      obtain ⟨σ18, hσ18, h⟩ := hl_ok h
      refine hr_pI hC F23_67 PX21_67 dX21_enter_90 q2908 ?_
      rw [← hσ18]
      refine hr_aload_n hC dX21_enter_93 rfl ?_
      refine hr_aload_n hC dX21_enter_94 rfl ?_
      refine hr_gI hC F23_68 dX21_enter_95 q2909 ?_
      refine hr_aload_n hC dX21_enter_98 rfl ?_
      refine hr_gA hC F23_61 rfl dX21_enter_99 q2902 ?_
      refine hr_iload_n hC dX21_enter_102 rfl ?_
      obtain ⟨c19, h⟩ := hk_ok h
      refine hs_iald hC A23_61 c19 dX21_enter_103 ?_
      refine hr_iadd hC dX21_enter_104 ?_
      obtain ⟨σ20, hσ20, h⟩ := hl_ok h
      refine hr_pI hC F23_68 PX21_68 dX21_enter_105 q2909 ?_
      rw [← hσ20]
      refine hr_aload_n hC dX21_enter_108 rfl ?_
      refine hr_gI hC F23_67 dX21_enter_109 q2908 ?_
      refine hr_istore_n hC dX21_enter_112 (by decide) ?_
      obtain ⟨r25, e26, h⟩ := hx_bind h
      refine hr_sub _ rfl (ll_X21_enter_113 n hD hem hC n _ _ _ _ _ am e26 ?_)
      refine hr_iconst (v := 0) hC dX21_enter_134 rfl ?_
      refine hr_istore_n hC dX21_enter_135 (by decide) ?_
      refine hr_aload_n hC dX21_enter_136 rfl ?_
      refine hr_gA hC F23_21 rfl dX21_enter_137 q2863 ?_
      refine hr_iload_n hC dX21_enter_140 rfl ?_
      obtain ⟨c30, h⟩ := hk_ok h
      refine hs_iald hC A23_21 c30 dX21_enter_141 ?_
      refine hr_istore hC dX21_enter_142 (by decide) ?_
      obtain ⟨r45, e46, h⟩ := hx_bind h
      refine hr_sub _ rfl (ll_X21_enter_144 n hD hem hC n _ _ _ _ _ _ am e46 ?_)
      refine hr_aload_n hC dX21_enter_183 rfl ?_
      refine hr_gI hC F23_72 dX21_enter_184 q2913 ?_
      refine hr_iload_n hC dX21_enter_187 rfl ?_
      refine hr_isub hC dX21_enter_188 ?_
      refine hr_istore hC dX21_enter_189 (by decide) ?_
      refine hr_aload_n hC dX21_enter_191 rfl ?_
      refine hr_iload hC dX21_enter_192 rfl ?_
      obtain ⟨σ50, hσ50, h⟩ := hl_ok h
      refine hr_pI hC F23_72 PX21_72 dX21_enter_194 q2913 ?_
      rw [← hσ50]
      refine hr_aload_n hC dX21_enter_197 rfl ?_
      refine hr_gA hC F23_21 rfl dX21_enter_198 q2863 ?_
      refine hr_iload_n hC dX21_enter_201 rfl ?_
      obtain ⟨c51, h⟩ := hk_ok h
      refine hs_iald hC A23_21 c51 dX21_enter_202 ?_
      refine hr_istore hC dX21_enter_203 (by decide) ?_
      obtain ⟨r85, e86, h⟩ := hx_bind h
      refine hr_sub _ rfl (ll_X21_enter_205 n hD hem hC n _ _ _ _ _ _ am e86 ?_)
      refine hr_aload_n hC dX21_enter_315 rfl ?_
      refine hr_iload_n hC dX21_enter_316 rfl ?_
      obtain ⟨r90, e91, h⟩ := hx_bind h
      refine hs_callV0 hC 23 [_] _ dX21_enter_317 q3595 q3597 qs283 q335 q3598 np_X21 rfl OB_23 pd_X21_push (Nat.le_of_ble_eq_true rfl) hd1 (okX21_push l E A (d - 1)  (by omega)  e91 am) rfl ?_
      refine hr_aload_n hC dX21_enter_320 rfl ?_
      refine hr_gA hC F23_71 rfl dX21_enter_321 q2912 ?_
      refine hr_aload_n hC dX21_enter_324 rfl ?_
      refine hr_gI hC F23_69 dX21_enter_325 q2910 ?_
      refine hr_iconst (v := 1) hC dX21_enter_328 rfl ?_
      refine hr_isub hC dX21_enter_329 ?_
      refine hr_iload_n hC dX21_enter_330 rfl ?_
      refine hr_iconst (v := 1) hC dX21_enter_331 rfl ?_
      refine hr_iadd hC dX21_enter_332 ?_
      obtain ⟨c94, h⟩ := hk_ok h
      obtain ⟨σ95, hσ95, h⟩ := hl_ok h
      refine hs_iast hC A23_71 c94 dX21_enter_333 ?_
      rw [← hσ95]
      refine hr_aload_n hC dX21_enter_334 rfl ?_
      refine hr_aload_n hC dX21_enter_335 rfl ?_
      refine hr_gA hC F23_22 rfl dX21_enter_336 q2864 ?_
      refine hr_iload_n hC dX21_enter_339 rfl ?_
      obtain ⟨c96, h⟩ := hk_ok h
      refine hs_iald hC A23_22 c96 dX21_enter_340 ?_
      obtain ⟨r97, e98, h⟩ := hx_bind h
      refine hs_callV0 hC 23 [_] _ dX21_enter_341 q3595 q3597 qs283 q335 q3598 np_X21 rfl OB_23 pd_X21_push (Nat.le_of_ble_eq_true rfl) hd1 (okX21_push l E A (d - 1)  (by omega)  e98 am) rfl ?_
      obtain rfl := Option.some.inj h
      exact hr_vret hC dX21_enter_344
    · rw [if_neg c10] at h
      refine hr_aload_n hC dX21_enter_28 rfl ?_
      refine hr_iconst (v := 4) hC dX21_enter_29 rfl ?_
      obtain ⟨r101, e102, h⟩ := hx_bind h
      refine hs_callV0 hC 23 [_] _ dX21_enter_30 q3587 q3589 qs281 q335 q3590 np_X21 rfl OB_23 pd_X21_stop (Nat.le_of_ble_eq_true rfl) hd1 (okX21_stop l E A (d - 1)  (by omega)  e102 am) rfl ?_
      obtain rfl := Option.some.inj h
      exact hr_vret hC dX21_enter_33
  · rw [if_pos c7] at h
    obtain rfl := Option.some.inj h
    exact hr_vret hC dX21_enter_14
/-- HomeCompilerModel.state(I)V -/
def fm_X21_state  (x1 : Int32) (σ : hc_St) : Option hc_St := hk (inb ((((gI σ 23 69)) - 1)) (gL σ 23 71)) <| hl (pC σ 23 71 ((((gI σ 23 69)) - 1)) x1) fun σ2 => some σ2
set_option maxRecDepth 20000 in
set_option maxHeartbeats 4000000 in
theorem okX21_state (l : Launch) (E : hc_E) (A : Nat → Prop) (d : Nat)  (hD : 1 ≤ d) {x1 : Int32} {σ : hc_St} {r : hc_St} (h : fm_X21_state  x1 σ = some r) (am : Nat → Nat → Nat) : hc_M l hc_V0 yX21_state (ws_ yX21_state cX21_state 2 none) d E A [.ref (E.2.1 23), .int x1] am [] σ (.inl none) r := by
  have hd1 : 1 ≤ d := by omega
  refine hc_enter2 (own := RX21) [(0, .ref (E.2.1 23)), (1, .int x1)] pl_X21 rfl hc_V0_st hc_G0_nd rfl (Nat.le_of_ble_eq_true rfl) (fun X hC hem => ?_)
  unfold fm_X21_state at h
  refine hr_aload_n hC dX21_state_0 rfl ?_
  refine hr_gA hC F23_71 rfl dX21_state_1 q2912 ?_
  refine hr_aload_n hC dX21_state_4 rfl ?_
  refine hr_gI hC F23_69 dX21_state_5 q2910 ?_
  refine hr_iconst (v := 1) hC dX21_state_8 rfl ?_
  refine hr_isub hC dX21_state_9 ?_
  refine hr_iload_n hC dX21_state_10 rfl ?_
  obtain ⟨c1, h⟩ := hk_ok h
  obtain ⟨σ2, hσ2, h⟩ := hl_ok h
  refine hs_iast hC A23_71 c1 dX21_state_11 ?_
  rw [← hσ2]
  obtain rfl := Option.some.inj h
  exact hr_vret hC dX21_state_12
/-- HomeCompilerModel.doRow(I)V -/
def fm_X21_doRow  (x1 : Int32) (σ : hc_St) : Option hc_St := Option.bind (α := hc_St) (if 0 ≤ x1 then (Option.bind (fm_X21_state ((x1 + 1)) σ) fun r7 => Option.bind (fm_X21_push x1 r7) fun r11 => some (r11)) else (hl (pI σ 23 69 ((((gI σ 23 69)) - 1))) fun σ15 => some (σ15))) fun r3 => some r3
set_option maxRecDepth 20000 in
set_option maxHeartbeats 4000000 in
theorem okX21_doRow (l : Launch) (E : hc_E) (A : Nat → Prop) (d : Nat)  (hD : 2 ≤ d) {x1 : Int32} {σ : hc_St} {r : hc_St} (h : fm_X21_doRow  x1 σ = some r) (am : Nat → Nat → Nat) : hc_M l hc_V0 yX21_doRow (ws_ yX21_doRow cX21_doRow 2 none) d E A [.ref (E.2.1 23), .int x1] am [] σ (.inl none) r := by
  have hd1 : 1 ≤ d := by omega
  refine hc_enter2 (own := RX21) [(0, .ref (E.2.1 23)), (1, .int x1)] pl_X21 rfl hc_V0_st hc_G0_nd rfl (Nat.le_of_ble_eq_true rfl) (fun X hC hem => ?_)
  unfold fm_X21_doRow at h
  refine hr_iload_n hC dX21_doRow_0 rfl ?_
  obtain ⟨r3, e4, h⟩ := hx_bind h
  have J5 : hc_At hc_V0 E 2 X 29 [] [] r3 am [] := by
    obtain rfl := Option.some.inj h
    exact hr_vret hC dX21_doRow_29
  clear h
  have h := e4
  refine hr_if_ge (x := _) hC 17 dX21_doRow_1 (by decide) (fun c2 => ?_) (fun c2 => ?_)
  · rw [if_pos c2] at h
    refine hr_aload_n hC dX21_doRow_17 rfl ?_
    refine hr_iload_n hC dX21_doRow_18 rfl ?_
    refine hr_iconst (v := 1) hC dX21_doRow_19 rfl ?_
    refine hr_iadd hC dX21_doRow_20 ?_
    obtain ⟨r7, e8, h⟩ := hx_bind h
    refine hs_callV0 hC 23 [_] _ dX21_doRow_21 q3611 q3613 qs287 q335 q3614 np_X21 rfl OB_23 pd_X21_state (Nat.le_of_ble_eq_true rfl) hd1 (okX21_state l E A (d - 1)  (by omega)  e8 am) rfl ?_
    refine hr_aload_n hC dX21_doRow_24 rfl ?_
    refine hr_iload_n hC dX21_doRow_25 rfl ?_
    obtain ⟨r11, e12, h⟩ := hx_bind h
    refine hs_callV0 hC 23 [_] _ dX21_doRow_26 q3595 q3597 qs283 q335 q3598 np_X21 rfl OB_23 pd_X21_push (Nat.le_of_ble_eq_true rfl) hd1 (okX21_push l E A (d - 1)  (by omega)  e12 am) rfl ?_
    obtain rfl := Option.some.inj h
    exact hr_sub _ rfl (J5)
  · rw [if_neg c2] at h
    refine hr_aload_n hC dX21_doRow_4 rfl ?_
    refine hr_dup hC dX21_doRow_5 rfl ?_
    refine hr_gI hC F23_69 dX21_doRow_6 q2910 ?_
    refine hr_iconst (v := 1) hC dX21_doRow_9 rfl ?_
    refine hr_isub hC dX21_doRow_10 ?_
    obtain ⟨σ15, hσ15, h⟩ := hl_ok h
    refine hr_pI hC F23_69 PX21_69 dX21_doRow_11 q2910 ?_
    rw [← hσ15]
    refine hr_goto hC 29 dX21_doRow_14 (by decide) ?_
    obtain rfl := Option.some.inj h
    exact hr_sub _ rfl (J5)
/-- HomeCompilerModel.take()I -/
def fm_X21_take_2   (σ : hc_St) : Option (Int32 × hc_St) := hl (pI σ 23 72 ((((gI σ 23 72)) - 1))) fun σ1 => hk (inb ((gI σ1 23 72)) (gL σ1 23 73)) <| some ((gC σ1 23 73 ((gI σ1 23 72))), σ1)
set_option maxRecDepth 20000 in
set_option maxHeartbeats 4000000 in
theorem okX21_take_2 (l : Launch) (E : hc_E) (A : Nat → Prop) (d : Nat)  (hD : 1 ≤ d)  {σ : hc_St} {r : (Int32 × hc_St)} (h : fm_X21_take_2   σ = some r) (am : Nat → Nat → Nat) : hc_M l hc_V0 yX21_take_2 (ws_ yX21_take_2 cX21_take_2 1 (some .int)) d E A [.ref (E.2.1 23)] am [] σ (.inl (some (.int r.1))) r.2 := by
  have hd1 : 1 ≤ d := by omega
  refine hc_enter2 (own := RX21) [(0, .ref (E.2.1 23))] pl_X21 rfl hc_V0_st hc_G0_nd rfl (Nat.le_of_ble_eq_true rfl) (fun X hC hem => ?_)
  unfold fm_X21_take_2 at h
  refine hr_aload_n hC dX21_take_2_0 rfl ?_
  refine hr_dup hC dX21_take_2_1 rfl ?_
  refine hr_gI hC F23_72 dX21_take_2_2 q2913 ?_
  refine hr_iconst (v := 1) hC dX21_take_2_5 rfl ?_
  refine hr_isub hC dX21_take_2_6 ?_
  obtain ⟨σ1, hσ1, h⟩ := hl_ok h
  refine hr_pI hC F23_72 PX21_72 dX21_take_2_7 q2913 ?_
  rw [← hσ1]
  refine hr_aload_n hC dX21_take_2_10 rfl ?_
  refine hr_gA hC F23_73 rfl dX21_take_2_11 q2914 ?_
  refine hr_aload_n hC dX21_take_2_14 rfl ?_
  refine hr_gI hC F23_72 dX21_take_2_15 q2913 ?_
  obtain ⟨c2, h⟩ := hk_ok h
  refine hs_iald hC A23_73 c2 dX21_take_2_18 ?_
  obtain rfl := Option.some.inj h
  exact hr_iret hC dX21_take_2_19
def lp_X21_doDeclare_62 (n : Nat) : Nat → Int32 → hc_St → Option hc_St
  | 0, _, _ => none
  | m + 1, y3, σ => if y3 < 0 then (hl (pI σ 23 69 ((((gI σ 23 69)) - 1))) fun σ32 => some σ32) else (hk (inb y3 (gL σ 23 26)) <| if (gC σ 23 26 y3) = 1 then (Option.bind (fm_X21_state ((((2 * ((y3 + 1)))) + 1)) σ) fun r41 => hk (inb y3 (gL r41 23 22)) <| Option.bind (fm_X21_push ((gC r41 23 22 y3)) r41) fun r46 => some r46) else (Option.bind (fm_X21_begin n y3 σ) fun r36 => hk (inb y3 (gL r36 23 25)) <| lp_X21_doDeclare_62 n m ((gC r36 23 25 y3)) r36))
/-- HomeCompilerModel.doDeclare(II)V -/
def fm_X21_doDeclare (n : Nat) (x1 : Int32) (x2 : Int32) (σ : hc_St) : Option hc_St := Option.bind (α := Int32) (if x2 = 0 then (hk (inb x1 (gL σ 23 21)) <| some ((gC σ 23 21 x1))) else (some ((((x2 / 2)) - 1)))) fun r3 => Option.bind (α := hc_St × Int32) (if (jrem x2 2) = 1 then (hk (inb r3 (gL σ 23 24)) <| Option.bind (fm_X21_cellOf ((gC σ 23 24 r3)) σ) fun r15 => Option.bind (fm_X21_take_2  σ) fun r19 => Option.bind (fm_X21_stored ((gC σ 23 24 r3)) r19.1 r19.2) fun r23 => hk (inb r15 (gL r19.2 23 66)) <| hl (pC r19.2 23 66 r15 r23) fun σ28 => hk (inb r3 (gL σ28 23 25)) <| some (σ28, (gC σ28 23 25 r3))) else (some (σ, r3))) fun r10 => lp_X21_doDeclare_62 n n r10.2 r10.1
set_option maxRecDepth 20000 in
set_option maxHeartbeats 4000000 in
theorem ll_X21_doDeclare_62 {l : Launch} {E : hc_E} {A : Nat → Prop} {am : Nat → Nat → Nat} {d : Nat} {X : hc_X} (n : Nat) (hD : 4 ≤ d) (hem : X.2.2.2.2.2.2.2.2.2.1.exceptionTable.isEmpty = true) : ∀ (m : Nat) (σ : hc_St) (y3 : Int32) (rl : hc_St), lp_X21_doDeclare_62 n m y3 σ = some rl → hc_C hc_V0 E cX21_doDeclare 5 RX21 none d (.inl none) rl (l, A, am, []) X → ∀ am1, hc_At hc_V0 E 5 X 62 [(0, .ref (E.2.1 23)), (3, .int y3)] [] σ am1 [] := by
  have hd1 : 1 ≤ d := by omega
  intro m
  induction m with
  | zero =>
    intro σ y3 rl h
    cases h
  | succ m ih =>
    intro σ y3 rl h hC am1
    rw [lp_X21_doDeclare_62] at h
    refine hr_iload_n hC dX21_doDeclare_62 rfl ?_
    refine hr_if_lt (x := _) hC 113 dX21_doDeclare_63 (by decide) (fun c31 => ?_) (fun c31 => ?_)
    · rw [if_pos c31] at h
      refine hr_aload_n hC dX21_doDeclare_113 rfl ?_
      refine hr_dup hC dX21_doDeclare_114 rfl ?_
      refine hr_gI hC F23_69 dX21_doDeclare_115 q2910 ?_
      refine hr_iconst (v := 1) hC dX21_doDeclare_118 rfl ?_
      refine hr_isub hC dX21_doDeclare_119 ?_
      obtain ⟨σ32, hσ32, h⟩ := hl_ok h
      refine hr_pI hC F23_69 PX21_69 dX21_doDeclare_120 q2910 ?_
      rw [← hσ32]
      obtain rfl := Option.some.inj h
      exact hr_vret hC dX21_doDeclare_123
    · rw [if_neg c31] at h
      refine hr_aload_n hC dX21_doDeclare_66 rfl ?_
      refine hr_gA hC F23_26 rfl dX21_doDeclare_67 q2868 ?_
      refine hr_iload_n hC dX21_doDeclare_70 rfl ?_
      obtain ⟨c33, h⟩ := hk_ok h
      refine hs_iald hC A23_26 c33 dX21_doDeclare_71 ?_
      refine hr_iconst (v := 1) hC dX21_doDeclare_72 rfl ?_
      refine hr_icmp_ne (x := _) hC 98 dX21_doDeclare_73 (by decide) (fun c35 => ?_) (fun c35 => ?_)
      · rw [if_neg c35] at h
        refine hr_aload_n hC dX21_doDeclare_98 rfl ?_
        refine hr_iload_n hC dX21_doDeclare_99 rfl ?_
        obtain ⟨r36, e37, h⟩ := hx_bind h
        refine hs_callV0 hC 23 [_] _ dX21_doDeclare_100 q3555 q3557 qs273 q335 q3558 np_X21 rfl OB_23 pd_X21_begin (Nat.le_of_ble_eq_true rfl) hd1 (okX21_begin l E A (d - 1) n (by omega)  e37 am1) rfl ?_
        refine hr_aload_n hC dX21_doDeclare_103 rfl ?_
        refine hr_gA hC F23_25 rfl dX21_doDeclare_104 q2867 ?_
        refine hr_iload_n hC dX21_doDeclare_107 rfl ?_
        obtain ⟨c40, h⟩ := hk_ok h
        refine hs_iald hC A23_25 c40 dX21_doDeclare_108 ?_
        refine hr_istore_n hC dX21_doDeclare_109 (by decide) ?_
        refine hr_goto hC 62 dX21_doDeclare_110 (by decide) ?_
        exact hr_sub _ rfl (ih _ _ _ h hC am1)
      · rw [if_pos c35] at h
        refine hr_aload_n hC dX21_doDeclare_76 rfl ?_
        refine hr_iconst (v := 2) hC dX21_doDeclare_77 rfl ?_
        refine hr_iload_n hC dX21_doDeclare_78 rfl ?_
        refine hr_iconst (v := 1) hC dX21_doDeclare_79 rfl ?_
        refine hr_iadd hC dX21_doDeclare_80 ?_
        refine hr_imul hC dX21_doDeclare_81 ?_
        refine hr_iconst (v := 1) hC dX21_doDeclare_82 rfl ?_
        refine hr_iadd hC dX21_doDeclare_83 ?_
        obtain ⟨r41, e42, h⟩ := hx_bind h
        refine hs_callV0 hC 23 [_] _ dX21_doDeclare_84 q3611 q3613 qs287 q335 q3614 np_X21 rfl OB_23 pd_X21_state (Nat.le_of_ble_eq_true rfl) hd1 (okX21_state l E A (d - 1)  (by omega)  e42 am1) rfl ?_
        refine hr_aload_n hC dX21_doDeclare_87 rfl ?_
        refine hr_aload_n hC dX21_doDeclare_88 rfl ?_
        refine hr_gA hC F23_22 rfl dX21_doDeclare_89 q2864 ?_
        refine hr_iload_n hC dX21_doDeclare_92 rfl ?_
        obtain ⟨c45, h⟩ := hk_ok h
        refine hs_iald hC A23_22 c45 dX21_doDeclare_93 ?_
        obtain ⟨r46, e47, h⟩ := hx_bind h
        refine hs_callV0 hC 23 [_] _ dX21_doDeclare_94 q3595 q3597 qs283 q335 q3598 np_X21 rfl OB_23 pd_X21_push (Nat.le_of_ble_eq_true rfl) hd1 (okX21_push l E A (d - 1)  (by omega)  e47 am1) rfl ?_
        obtain rfl := Option.some.inj h
        exact hr_vret hC dX21_doDeclare_97
set_option maxRecDepth 20000 in
set_option maxHeartbeats 4000000 in
theorem okX21_doDeclare (l : Launch) (E : hc_E) (A : Nat → Prop) (d : Nat) (n : Nat) (hD : 4 ≤ d) {x1 : Int32} {x2 : Int32} {σ : hc_St} {r : hc_St} (h : fm_X21_doDeclare n x1 x2 σ = some r) (am : Nat → Nat → Nat) : hc_M l hc_V0 yX21_doDeclare (ws_ yX21_doDeclare cX21_doDeclare 5 none) d E A [.ref (E.2.1 23), .int x1, .int x2] am [] σ (.inl none) r := by
  have hd1 : 1 ≤ d := by omega
  refine hc_enter2 (own := RX21) [(0, .ref (E.2.1 23)), (1, .int x1), (2, .int x2)] pl_X21 rfl hc_V0_st hc_G0_nd rfl (Nat.le_of_ble_eq_true rfl) (fun X hC hem => ?_)
  unfold fm_X21_doDeclare at h
  refine hr_iload_n hC dX21_doDeclare_0 rfl ?_
  obtain ⟨r3, e4, h⟩ := hx_bind h
  have J5 : hc_At hc_V0 E 5 X 18 [(0, .ref (E.2.1 23)), (2, .int x2)] [.int r3] σ am [] := by
    refine hr_istore_n hC dX21_doDeclare_18 (by decide) ?_
    refine hr_iload_n hC dX21_doDeclare_19 rfl ?_
    refine hr_iconst (v := 2) hC dX21_doDeclare_20 rfl ?_
    refine hr_irem hC dX21_doDeclare_21 (by decide) ?_
    refine hr_iconst (v := 1) hC dX21_doDeclare_22 rfl ?_
    obtain ⟨r10, e11, h⟩ := hx_bind h
    have J12 : hc_At hc_V0 E 5 X 62 [(0, .ref (E.2.1 23)), (3, .int r10.2)] [] r10.1 am [] := by
      exact hr_sub _ rfl (ll_X21_doDeclare_62 n hD hem n _ _ _ h hC am)
    clear h
    have h := e11
    refine hr_icmp_ne (x := _) hC 62 dX21_doDeclare_23 (by decide) (fun c9 => ?_) (fun c9 => ?_)
    · rw [if_neg c9] at h
      obtain rfl := Option.some.inj h
      exact hr_sub _ rfl (J12)
    · rw [if_pos c9] at h
      refine hr_aload_n hC dX21_doDeclare_26 rfl ?_
      refine hr_gA hC F23_24 rfl dX21_doDeclare_27 q2866 ?_
      refine hr_iload_n hC dX21_doDeclare_30 rfl ?_
      obtain ⟨c14, h⟩ := hk_ok h
      refine hs_iald hC A23_24 c14 dX21_doDeclare_31 ?_
      refine hr_istore hC dX21_doDeclare_32 (by decide) ?_
      refine hr_aload_n hC dX21_doDeclare_34 rfl ?_
      refine hr_gA hC F23_66 rfl dX21_doDeclare_35 q2907 ?_
      refine hr_aload_n hC dX21_doDeclare_38 rfl ?_
      refine hr_iload hC dX21_doDeclare_39 rfl ?_
      obtain ⟨r15, e16, h⟩ := hx_bind h
      refine hs_callV0 hC 23 [_] _ dX21_doDeclare_41 q3559 q3561 qs274 q335 q3562 np_X21 rfl OB_23 pd_X21_cellOf (Nat.le_of_ble_eq_true rfl) hd1 (okX21_cellOf l E A (d - 1)  (by omega)  e16 am) rfl ?_
      refine hr_aload_n hC dX21_doDeclare_44 rfl ?_
      refine hr_iload hC dX21_doDeclare_45 rfl ?_
      refine hr_aload_n hC dX21_doDeclare_47 rfl ?_
      obtain ⟨r19, e20, h⟩ := hx_bind h
      refine hs_callV0 hC 23 [] _ dX21_doDeclare_48 q3615 q3617 qs288 q335 q3618 np_X21 rfl OB_23 pd_X21_take_2 (Nat.le_of_ble_eq_true rfl) hd1 (okX21_take_2 l E A (d - 1)  (by omega)  e20 am) rfl ?_
      obtain ⟨r23, e24, h⟩ := hx_bind h
      refine hs_callV0 hC 23 [_, _] _ dX21_doDeclare_51 q3563 q3565 qs275 q335 q3566 np_X21 rfl OB_23 pd_X21_stored (Nat.le_of_ble_eq_true rfl) hd1 (okX21_stored l E A (d - 1)  (by omega)  e24 am) rfl ?_
      obtain ⟨c27, h⟩ := hk_ok h
      obtain ⟨σ28, hσ28, h⟩ := hl_ok h
      refine hs_iast hC A23_66 c27 dX21_doDeclare_54 ?_
      rw [← hσ28]
      refine hr_aload_n hC dX21_doDeclare_55 rfl ?_
      refine hr_gA hC F23_25 rfl dX21_doDeclare_56 q2867 ?_
      refine hr_iload_n hC dX21_doDeclare_59 rfl ?_
      obtain ⟨c29, h⟩ := hk_ok h
      refine hs_iald hC A23_25 c29 dX21_doDeclare_60 ?_
      refine hr_istore_n hC dX21_doDeclare_61 (by decide) ?_
      obtain rfl := Option.some.inj h
      exact hr_sub _ rfl (J12)
  clear h
  have h := e4
  refine hr_if_ne (x := _) hC 13 dX21_doDeclare_1 (by decide) (fun c2 => ?_) (fun c2 => ?_)
  · rw [if_neg c2] at h
    refine hr_iload_n hC dX21_doDeclare_13 rfl ?_
    refine hr_iconst (v := 2) hC dX21_doDeclare_14 rfl ?_
    refine hr_idiv hC dX21_doDeclare_15 (by decide) ?_
    refine hr_iconst (v := 1) hC dX21_doDeclare_16 rfl ?_
    refine hr_isub hC dX21_doDeclare_17 ?_
    obtain rfl := Option.some.inj h
    exact hr_sub _ rfl (J5)
  · rw [if_pos c2] at h
    refine hr_aload_n hC dX21_doDeclare_4 rfl ?_
    refine hr_gA hC F23_21 rfl dX21_doDeclare_5 q2863 ?_
    refine hr_iload_n hC dX21_doDeclare_8 rfl ?_
    obtain ⟨c7, h⟩ := hk_ok h
    refine hs_iald hC A23_21 c7 dX21_doDeclare_9 ?_
    refine hr_goto hC 18 dX21_doDeclare_10 (by decide) ?_
    obtain rfl := Option.some.inj h
    exact hr_sub _ rfl (J5)
