set_option maxRecDepth 20000
def lp_X3_of_6 (n : Nat) (o1 : Nat) : Nat → Int32 → Int32 → Int32 → Int32 → hc_St → Option (Int32)
  | 0, _, _, _, _, _ => none
  | m + 1, y2, y3, y4, y5, σ => if y3 ≤ y5 then (some (y4)) else (Option.bind (fm_X4_at o1 ((y2 + y5)) σ) fun r3 => lp_X3_of_6 n o1 m y2 y3 ((((31 * y4)) + r3)) ((y5 + 1)) σ)
def lp_X3_of_204 (n : Nat) (o1 : Nat) : Nat → Int32 → Int32 → Int32 → hc_St → Option (hc_St)
  | 0, _, _, _, _ => none
  | m + 1, y2, y3, y6, σ => if y3 ≤ y6 then (some (σ)) else (Option.bind (fm_X4_at o1 ((y2 + y6)) σ) fun r46 => Option.bind (fm_X4_add 3 r46 σ) fun r50 => lp_X3_of_204 n o1 m y2 y3 ((y6 + 1)) r50)
def lp_X3_of_57 (n : Nat) (o1 : Nat) : Nat → Int32 → Int32 → Int32 → Int32 → Int32 → hc_St → Option (Int32 × hc_St)
  | 0, _, _, _, _, _, _ => none
  | m + 1, y2, y3, y4, y5, y6, σ => if y6 = (-1) then (Option.bind (α := hc_St) (if (gI σ 2 4) = (nI (gL σ 2 1)) then (hk (hlo (gL σ 2 1) σ) <| hl (hlg σ 2 1) fun σ22 => hk (hlo (gL σ22 2 2) σ22) <| hl (hlg σ22 2 2) fun σ25 => hk (hlo (gL σ25 2 3) σ25) <| hl (hlg σ25 2 3) fun σ28 => some (σ28)) else (some (σ))) fun r17 => Option.bind (fm_X4_size 3 r17) fun r31 => hk (inb ((gI r17 2 4)) (gL r17 2 1)) <| hl (pC r17 2 1 ((gI r17 2 4)) r31) fun σ36 => hk (inb ((gI σ36 2 4)) (gL σ36 2 3)) <| hl (pC σ36 2 3 ((gI σ36 2 4)) y4) fun σ38 => hk (inb y5 (gL σ38 2 5)) <| hk (inb ((gI σ38 2 4)) (gL σ38 2 2)) <| hl (pC σ38 2 2 ((gI σ38 2 4)) ((gC σ38 2 5 y5))) fun σ41 => hk (inb y5 (gL σ41 2 5)) <| hl (pC σ41 2 5 y5 ((gI σ41 2 4))) fun σ43 => Option.bind (lp_X3_of_204 n o1 n y2 y3 0 σ43) fun r54 => hl (pI r54 2 4 ((((gI r54 2 4)) + 1))) fun σ59 => some ((gI r54 2 4), σ59)) else (hk (inb y6 (gL σ 2 3)) <| if (gC σ 2 3 y6) = y4 then (Option.bind (fm_X3_is n y6 o1 y2 y3 σ) fun r64 => if r64 = 0 then (hk (inb y6 (gL σ 2 2)) <| lp_X3_of_57 n o1 m y2 y3 y4 y5 ((gC σ 2 2 y6)) σ) else (some (y6, σ))) else (hk (inb y6 (gL σ 2 2)) <| lp_X3_of_57 n o1 m y2 y3 y4 y5 ((gC σ 2 2 y6)) σ))
/-- HomeCompiler$Names.of(LHomeCompiler$Bytes;II)I -/
def fm_X3_of (n : Nat) (o1 : Nat) (x2 : Int32) (x3 : Int32) (σ : hc_St) : Option (Int32 × hc_St) := Option.bind (lp_X3_of_6 n o1 n x2 x3 0 0 σ) fun r7 => hk (inb ((((r7 ^^^ ((jush r7 8)))) &&& 255)) (gL σ 2 5)) <| lp_X3_of_57 n o1 n x2 x3 r7 ((((r7 ^^^ ((jush r7 8)))) &&& 255)) ((gC σ 2 5 ((((r7 ^^^ ((jush r7 8)))) &&& 255)))) σ
set_option maxRecDepth 20000 in
set_option maxHeartbeats 4000000 in
theorem ll_X3_of_6 {l : Launch} {E : hc_E} {A : Nat → Prop} {am : Nat → Nat → Nat} {d : Nat} {X : hc_X} (n : Nat) (o1 : Nat) (ho1 : hc_by o1) (hD : 5 ≤ d) (hem : X.2.2.2.2.2.2.2.2.2.1.exceptionTable.isEmpty = true) {oc : hc_Oc} {σe : hc_St} (hC : hc_C hc_V0 E cX3_of 7 RX3 (some .int) d oc σe (l, A, am, [2, 3, 4, 12, 22]) X) : ∀ (m : Nat) (σ : hc_St) (y2 : Int32) (y3 : Int32) (y4 : Int32) (y5 : Int32) (rl : Int32) (am1 : Nat → Nat → Nat), lp_X3_of_6 n o1 m y2 y3 y4 y5 σ = some rl → (hc_At hc_V0 E 7 X 34 [(0, .ref (E.2.1 2)), (1, .ref (E.2.1 o1)), (2, .int y2), (3, .int y3), (4, .int rl)] [] σ am1 []) → hc_At hc_V0 E 7 X 6 [(0, .ref (E.2.1 2)), (1, .ref (E.2.1 o1)), (2, .int y2), (3, .int y3), (4, .int y4), (5, .int y5)] [] σ am1 [] := by
  have hd1 : 1 ≤ d := by omega
  intro m
  induction m with
  | zero =>
    intro σ y2 y3 y4 y5 rl am1 h
    cases h
  | succ m ih =>
    intro σ y2 y3 y4 y5 rl am1 h JX
    rw [lp_X3_of_6] at h
    refine hr_iload hC dX3_of_6 rfl ?_
    refine hr_iload_n hC dX3_of_8 rfl ?_
    refine hr_icmp_ge (x := _) hC 34 dX3_of_9 (by decide) (fun c2 => ?_) (fun c2 => ?_)
    · rw [if_pos c2] at h
      obtain rfl := Option.some.inj h
      exact hr_sub _ rfl (JX)
    · rw [if_neg c2] at h
      refine hr_bipush (v := 31) hC dX3_of_12 rfl ?_
      refine hr_iload hC dX3_of_14 rfl ?_
      refine hr_imul hC dX3_of_16 ?_
      refine hr_aload_n hC dX3_of_17 rfl ?_
      refine hr_iload_n hC dX3_of_18 rfl ?_
      refine hr_iload hC dX3_of_19 rfl ?_
      refine hr_iadd hC dX3_of_21 ?_
      obtain ⟨r3, e4, h⟩ := hx_bind h
      refine hs_callV0 hC o1 [_] _ dX3_of_22 q1166 q1089 q1090 q318 q1091 np_X4 rfl (OB_by ho1) pd_X4_at (Nat.le_of_ble_eq_true rfl) hd1 (okX4_at l E A (d - 1)  (by omega) ho1 e4 am1) rfl ?_
      refine hr_iadd hC dX3_of_25 ?_
      refine hr_istore hC dX3_of_26 (by decide) ?_
      refine hr_iinc (v := y5 + 1) hC dX3_of_28 rfl rfl (by decide) ?_
      refine hr_goto hC 6 dX3_of_31 (by decide) ?_
      exact hr_sub _ rfl (ih _ _ _ _ _ _ am1 h JX)
set_option maxRecDepth 20000 in
set_option maxHeartbeats 4000000 in
theorem ll_X3_of_204 {l : Launch} {E : hc_E} {A : Nat → Prop} {am : Nat → Nat → Nat} {d : Nat} {X : hc_X} (n : Nat) (o1 : Nat) (ho1 : hc_by o1) (hD : 5 ≤ d) (hem : X.2.2.2.2.2.2.2.2.2.1.exceptionTable.isEmpty = true) {oc : hc_Oc} {σe : hc_St} (hC : hc_C hc_V0 E cX3_of 7 RX3 (some .int) d oc σe (l, A, am, [2, 3, 4, 12, 22]) X) : ∀ (m : Nat) (σ : hc_St) (y2 : Int32) (y3 : Int32) (y6 : Int32) (rl : hc_St), lp_X3_of_204 n o1 m y2 y3 y6 σ = some rl → (∀ am1, hc_At hc_V0 E 7 X 231 [(0, .ref (E.2.1 2))] [] rl am1 []) → ∀ am1, hc_At hc_V0 E 7 X 204 [(0, .ref (E.2.1 2)), (1, .ref (E.2.1 o1)), (2, .int y2), (3, .int y3), (6, .int y6)] [] σ am1 [] := by
  have hd1 : 1 ≤ d := by omega
  intro m
  induction m with
  | zero =>
    intro σ y2 y3 y6 rl h
    cases h
  | succ m ih =>
    intro σ y2 y3 y6 rl h JX am1
    rw [lp_X3_of_204] at h
    refine hr_iload hC dX3_of_204 rfl ?_
    refine hr_iload_n hC dX3_of_206 rfl ?_
    refine hr_icmp_ge (x := _) hC 231 dX3_of_207 (by decide) (fun c45 => ?_) (fun c45 => ?_)
    · rw [if_pos c45] at h
      obtain rfl := Option.some.inj h
      exact hr_sub _ rfl (JX am1)
    · rw [if_neg c45] at h
      refine hr_aload_n hC dX3_of_210 rfl ?_
      refine hr_gO 3 hC F2_0 rfl dX3_of_211 q436 ?_
      refine hr_aload_n hC dX3_of_214 rfl ?_
      refine hr_iload_n hC dX3_of_215 rfl ?_
      refine hr_iload hC dX3_of_216 rfl ?_
      refine hr_iadd hC dX3_of_218 ?_
      obtain ⟨r46, e47, h⟩ := hx_bind h
      refine hs_callV0 hC o1 [_] _ dX3_of_219 q1166 q1089 q1090 q318 q1091 np_X4 rfl (OB_by ho1) pd_X4_at (Nat.le_of_ble_eq_true rfl) hd1 (okX4_at l E A (d - 1)  (by omega) ho1 e47 am1) rfl ?_
      obtain ⟨r50, e51, h⟩ := hx_bind h
      refine hs_callV hC 3 [_] _ dX3_of_222 q1186 q1187 q1188 q318 q1189 np_X4 rfl OB_3 pd_X4_add (Nat.le_of_ble_eq_true rfl) hd1 (okX4_add l E A (d - 1)  (by omega) (by unfold hc_by; decide) e51 am1) (hc_rb rfl) rfl (fun am52 ha53 => ?_)
      refine hr_iinc (v := y6 + 1) hC dX3_of_225 rfl rfl (by decide) ?_
      refine hr_goto hC 204 dX3_of_228 (by decide) ?_
      exact hr_sub _ rfl (ih _ _ _ _ _ h JX am52)
set_option maxRecDepth 20000 in
set_option maxHeartbeats 4000000 in
theorem ll_X3_of_57 {l : Launch} {E : hc_E} {A : Nat → Prop} {am : Nat → Nat → Nat} {d : Nat} {X : hc_X} (n : Nat) (o1 : Nat) (ho1 : hc_by o1) (hD : 5 ≤ d) (hem : X.2.2.2.2.2.2.2.2.2.1.exceptionTable.isEmpty = true) : ∀ (m : Nat) (σ : hc_St) (y2 : Int32) (y3 : Int32) (y4 : Int32) (y5 : Int32) (y6 : Int32) (rl : (Int32 × hc_St)), lp_X3_of_57 n o1 m y2 y3 y4 y5 y6 σ = some rl → hc_C hc_V0 E cX3_of 7 RX3 (some .int) d (.inl (some (.int rl.1))) rl.2 (l, A, am, [2, 3, 4, 12, 22]) X → ∀ am1, hc_At hc_V0 E 7 X 57 [(0, .ref (E.2.1 2)), (1, .ref (E.2.1 o1)), (2, .int y2), (3, .int y3), (4, .int y4), (5, .int y5), (6, .int y6)] [] σ am1 [] := by
  have hd1 : 1 ≤ d := by omega
  intro m
  induction m with
  | zero =>
    intro σ y2 y3 y4 y5 y6 rl h
    cases h
  | succ m ih =>
    intro σ y2 y3 y4 y5 y6 rl h hC am1
    rw [lp_X3_of_57] at h
    refine hr_iload hC dX3_of_57 rfl ?_
    refine hr_iconst (v := (-1)) hC dX3_of_59 rfl ?_
    refine hr_icmp_eq (x := _) hC 102 dX3_of_60 (by decide) (fun c14 => ?_) (fun c14 => ?_)
    · rw [if_pos c14] at h
      refine hr_aload_n hC dX3_of_102 rfl ?_
      refine hr_gI hC F2_4 dX3_of_103 q440 ?_
      refine hr_aload_n hC dX3_of_106 rfl ?_
      refine hr_gA hC F2_1 rfl dX3_of_107 q437 ?_
      refine hs_alen1 hC A2_1 dX3_of_110 ?_
      obtain ⟨r17, e18, h⟩ := hx_bind h
      have J19 : ∀ am30, hc_At hc_V0 E 7 X 147 [(0, .ref (E.2.1 2)), (1, .ref (E.2.1 o1)), (2, .int y2), (3, .int y3), (4, .int y4), (5, .int y5)] [] r17 am30 [] := by
        intro am30
        refine hr_aload_n hC dX3_of_147 rfl ?_
        refine hr_gA hC F2_1 rfl dX3_of_148 q437 ?_
        refine hr_aload_n hC dX3_of_151 rfl ?_
        refine hr_gI hC F2_4 dX3_of_152 q440 ?_
        refine hr_aload_n hC dX3_of_155 rfl ?_
        refine hr_gO 3 hC F2_0 rfl dX3_of_156 q436 ?_
        obtain ⟨r31, e32, h⟩ := hx_bind h
        refine hs_callV0 hC 3 [] _ dX3_of_159 q1175 q1068 q1069 q318 q1070 np_X4 rfl OB_3 pd_X4_size (Nat.le_of_ble_eq_true rfl) hd1 (okX4_size l E A (d - 1)  (by omega) (by unfold hc_by; decide) e32 am30) rfl ?_
        obtain ⟨c35, h⟩ := hk_ok h
        obtain ⟨σ36, hσ36, h⟩ := hl_ok h
        refine hs_iast hC A2_1 c35 dX3_of_162 ?_
        rw [← hσ36]
        refine hr_aload_n hC dX3_of_163 rfl ?_
        refine hr_gA hC F2_3 rfl dX3_of_164 q439 ?_
        refine hr_aload_n hC dX3_of_167 rfl ?_
        refine hr_gI hC F2_4 dX3_of_168 q440 ?_
        refine hr_iload hC dX3_of_171 rfl ?_
        obtain ⟨c37, h⟩ := hk_ok h
        obtain ⟨σ38, hσ38, h⟩ := hl_ok h
        refine hs_iast hC A2_3 c37 dX3_of_173 ?_
        rw [← hσ38]
        refine hr_aload_n hC dX3_of_174 rfl ?_
        refine hr_gA hC F2_2 rfl dX3_of_175 q438 ?_
        refine hr_aload_n hC dX3_of_178 rfl ?_
        refine hr_gI hC F2_4 dX3_of_179 q440 ?_
        refine hr_aload_n hC dX3_of_182 rfl ?_
        refine hr_gA hC F2_5 rfl dX3_of_183 q441 ?_
        refine hr_iload hC dX3_of_186 rfl ?_
        obtain ⟨c39, h⟩ := hk_ok h
        refine hs_iald hC A2_5 c39 dX3_of_188 ?_
        obtain ⟨c40, h⟩ := hk_ok h
        obtain ⟨σ41, hσ41, h⟩ := hl_ok h
        refine hs_iast hC A2_2 c40 dX3_of_189 ?_
        rw [← hσ41]
        refine hr_aload_n hC dX3_of_190 rfl ?_
        refine hr_gA hC F2_5 rfl dX3_of_191 q441 ?_
        refine hr_iload hC dX3_of_194 rfl ?_
        refine hr_aload_n hC dX3_of_196 rfl ?_
        refine hr_gI hC F2_4 dX3_of_197 q440 ?_
        obtain ⟨c42, h⟩ := hk_ok h
        obtain ⟨σ43, hσ43, h⟩ := hl_ok h
        refine hs_iast hC A2_5 c42 dX3_of_200 ?_
        rw [← hσ43]
        refine hr_iconst (v := 0) hC dX3_of_201 rfl ?_
        refine hr_istore hC dX3_of_202 (by decide) ?_
        obtain ⟨r54, e55, h⟩ := hx_bind h
        refine hr_sub _ rfl (ll_X3_of_204 n o1 ho1 hD hem hC n _ _ _ _ _ e55 (fun am58 => ?_) am30)
        refine hr_aload_n hC dX3_of_231 rfl ?_
        refine hr_dup hC dX3_of_232 rfl ?_
        refine hr_gI hC F2_4 dX3_of_233 q440 ?_
        refine hr_dup_x1 hC dX3_of_236 rfl rfl ?_
        refine hr_iconst (v := 1) hC dX3_of_237 rfl ?_
        refine hr_iadd hC dX3_of_238 ?_
        obtain ⟨σ59, hσ59, h⟩ := hl_ok h
        refine hr_pI hC F2_4 PX3_4 dX3_of_239 q440 ?_
        rw [← hσ59]
        obtain rfl := Option.some.inj h
        exact hr_iret hC dX3_of_242
      clear h
      have h := e18
      refine hr_icmp_ne (x := _) hC 147 dX3_of_111 (by decide) (fun c16 => ?_) (fun c16 => ?_)
      · rw [if_neg c16] at h
        obtain rfl := Option.some.inj h
        exact hr_sub _ rfl (J19 am1)
      · rw [if_pos c16] at h
        refine hr_aload_n hC dX3_of_114 rfl ?_
        refine hr_aload_n hC dX3_of_115 rfl ?_
        refine hr_gA hC F2_1 rfl dX3_of_116 q437 ?_
        obtain ⟨c21, h⟩ := hk_ok h
        obtain ⟨σ22, hσ22, h⟩ := hl_ok h
        refine hr_longer (okl_X3 l E A (d - 1) (by omega)) hC F2_1 rfl A2_1 PX3_1 (hc_mm rfl) c21 dX3_of_119 q1180 dX3_of_122 q437 pd_X3_longer q1181 q317 q1182 np_X3 (Nat.le_of_ble_eq_true rfl) hd1 (fun q23 => ?_)
        rw [← hσ22]
        refine hr_aload_n hC dX3_of_125 rfl ?_
        refine hr_aload_n hC dX3_of_126 rfl ?_
        refine hr_gA hC F2_2 rfl dX3_of_127 q438 ?_
        obtain ⟨c24, h⟩ := hk_ok h
        obtain ⟨σ25, hσ25, h⟩ := hl_ok h
        refine hr_longer (okl_X3 l E A (d - 1) (by omega)) hC F2_2 rfl A2_2 PX3_2 (hc_mm rfl) c24 dX3_of_130 q1180 dX3_of_133 q438 pd_X3_longer q1181 q317 q1182 np_X3 (Nat.le_of_ble_eq_true rfl) hd1 (fun q26 => ?_)
        rw [← hσ25]
        refine hr_aload_n hC dX3_of_136 rfl ?_
        refine hr_aload_n hC dX3_of_137 rfl ?_
        refine hr_gA hC F2_3 rfl dX3_of_138 q439 ?_
        obtain ⟨c27, h⟩ := hk_ok h
        obtain ⟨σ28, hσ28, h⟩ := hl_ok h
        refine hr_longer (okl_X3 l E A (d - 1) (by omega)) hC F2_3 rfl A2_3 PX3_3 (hc_mm rfl) c27 dX3_of_141 q1180 dX3_of_144 q439 pd_X3_longer q1181 q317 q1182 np_X3 (Nat.le_of_ble_eq_true rfl) hd1 (fun q29 => ?_)
        rw [← hσ28]
        obtain rfl := Option.some.inj h
        exact hr_sub _ rfl (J19 ((hc_up2 (hc_up2 (hc_up2 am1 2 1 q23) 2 2 q26) 2 3 q29)))
    · rw [if_neg c14] at h
      refine hr_aload_n hC dX3_of_63 rfl ?_
      refine hr_gA hC F2_3 rfl dX3_of_64 q439 ?_
      refine hr_iload hC dX3_of_67 rfl ?_
      obtain ⟨c60, h⟩ := hk_ok h
      refine hs_iald hC A2_3 c60 dX3_of_69 ?_
      refine hr_iload hC dX3_of_70 rfl ?_
      refine hr_icmp_ne (x := _) hC 90 dX3_of_72 (by decide) (fun c62 => ?_) (fun c62 => ?_)
      · rw [if_neg c62] at h
        refine hr_aload_n hC dX3_of_90 rfl ?_
        refine hr_gA hC F2_2 rfl dX3_of_91 q438 ?_
        refine hr_iload hC dX3_of_94 rfl ?_
        obtain ⟨c63, h⟩ := hk_ok h
        refine hs_iald hC A2_2 c63 dX3_of_96 ?_
        refine hr_istore hC dX3_of_97 (by decide) ?_
        refine hr_goto hC 57 dX3_of_99 (by decide) ?_
        exact hr_sub _ rfl (ih _ _ _ _ _ _ _ h hC am1)
      · rw [if_pos c62] at h
        refine hr_aload_n hC dX3_of_75 rfl ?_
        refine hr_iload hC dX3_of_76 rfl ?_
        refine hr_aload_n hC dX3_of_78 rfl ?_
        refine hr_iload_n hC dX3_of_79 rfl ?_
        refine hr_iload_n hC dX3_of_80 rfl ?_
        obtain ⟨r64, e65, h⟩ := hx_bind h
        refine hs_callV0 hC 2 [_, _, _, _] _ dX3_of_81 q1167 q1169 qs4 q317 q1170 np_X3 rfl OB_2 pd_X3_is (Nat.le_of_ble_eq_true rfl) hd1 (okX3_is l E A (d - 1) n (by omega) ho1 e65 am1) rfl ?_
        refine hr_if_eq (x := _) hC 90 dX3_of_84 (by decide) (fun c69 => ?_) (fun c69 => ?_)
        · rw [if_pos c69] at h
          refine hr_aload_n hC dX3_of_90 rfl ?_
          refine hr_gA hC F2_2 rfl dX3_of_91 q438 ?_
          refine hr_iload hC dX3_of_94 rfl ?_
          obtain ⟨c70, h⟩ := hk_ok h
          refine hs_iald hC A2_2 c70 dX3_of_96 ?_
          refine hr_istore hC dX3_of_97 (by decide) ?_
          refine hr_goto hC 57 dX3_of_99 (by decide) ?_
          exact hr_sub _ rfl (ih _ _ _ _ _ _ _ h hC am1)
        · rw [if_neg c69] at h
          refine hr_iload hC dX3_of_87 rfl ?_
          obtain rfl := Option.some.inj h
          exact hr_iret hC dX3_of_89
set_option maxRecDepth 20000 in
set_option maxHeartbeats 4000000 in
theorem okX3_of (l : Launch) (E : hc_E) (A : Nat → Prop) (d : Nat) (n : Nat) (hD : 5 ≤ d) {o1 : Nat} (ho1 : hc_by o1) {x2 : Int32} {x3 : Int32} {σ : hc_St} {r : (Int32 × hc_St)} (h : fm_X3_of n o1 x2 x3 σ = some r) (am : Nat → Nat → Nat) : hc_M l hc_V0 yX3_of (ws_ yX3_of cX3_of 7 (some .int)) d E A [.ref (E.2.1 2), .ref (E.2.1 o1), .int x2, .int x3] am [2, 3, 4, 12, 22] σ (.inl (some (.int r.1))) r.2 := by
  have hd1 : 1 ≤ d := by omega
  refine hc_enter2 (own := RX3) [(0, .ref (E.2.1 2)), (1, .ref (E.2.1 o1)), (2, .int x2), (3, .int x3)] pl_X3 rfl hc_V0_st hc_G0_nd rfl (Nat.le_of_ble_eq_true rfl) (fun X hC hem => ?_)
  unfold fm_X3_of at h
  refine hr_iconst (v := 0) hC dX3_of_0 rfl ?_
  refine hr_istore hC dX3_of_1 (by decide) ?_
  refine hr_iconst (v := 0) hC dX3_of_3 rfl ?_
  refine hr_istore hC dX3_of_4 (by decide) ?_
  obtain ⟨r7, e8, h⟩ := hx_bind h
  refine hr_sub _ rfl (ll_X3_of_6 n o1 ho1 hD hem hC n _ _ _ _ _ _ am e8 ?_)
  refine hr_iload hC dX3_of_34 rfl ?_
  refine hr_iload hC dX3_of_36 rfl ?_
  refine hr_bipush (v := 8) hC dX3_of_38 rfl ?_
  refine hr_iushr hC dX3_of_40 ?_
  refine hr_ixor hC dX3_of_41 ?_
  refine hr_sipush (v := 255) hC dX3_of_42 rfl ?_
  refine hr_iand hC dX3_of_45 ?_
  refine hr_istore hC dX3_of_46 (by decide) ?_
  refine hr_aload_n hC dX3_of_48 rfl ?_
  refine hr_gA hC F2_5 rfl dX3_of_49 q441 ?_
  refine hr_iload hC dX3_of_52 rfl ?_
  obtain ⟨c12, h⟩ := hk_ok h
  refine hs_iald hC A2_5 c12 dX3_of_54 ?_
  refine hr_istore hC dX3_of_55 (by decide) ?_
  exact hr_sub _ rfl (ll_X3_of_57 n o1 ho1 hD hem n _ _ _ _ _ _ _ h hC am)
def lp_X5_word_0 (n : Nat) : Nat → hc_St → Option (hc_St)
  | 0, _ => none
  | m + 1, σ => Option.bind (fm_X5_look 0 σ) fun r1 => Option.bind (fm_X5_isLetter r1 σ) fun r5 => if r5 = 0 then (Option.bind (fm_X5_look 0 σ) fun r12 => Option.bind (fm_X5_isDigit r12 σ) fun r16 => if r16 = 0 then (some (σ)) else (hl (pI σ 5 5 ((((gI σ 5 5)) + 1))) fun σ22 => lp_X5_word_0 n m  σ22)) else (hl (pI σ 5 5 ((((gI σ 5 5)) + 1))) fun σ11 => lp_X5_word_0 n m  σ11)
/-- HomeCompiler$Scanner.word()V -/
def fm_X5_word (n : Nat)  (σ : hc_St) : Option hc_St := Option.bind (lp_X5_word_0 n n  σ) fun r23 => hk (decide (gI r23 5 4 ≠ 0)) <| Option.bind (fm_X2_find n 22 ((gI r23 5 7)) ((((gI r23 5 5)) - ((gI r23 5 7)))) r23) fun r29 => hl (α := Int32) ((if r29 = (-1) then (if (((gI r23 5 5)) - ((gI r23 5 7))) ≤ 24 then 1 else 4) else (200 + r29))) fun v35 => hl (pI r23 5 6 v35) fun σ36 => Option.bind (α := hc_St × Int32) (if (gI σ36 5 6) = 1 then (hk (decide (gI σ36 5 4 ≠ 0)) <| Option.bind (fm_X3_of n 22 ((gI σ36 5 7)) ((((gI r23 5 5)) - ((gI r23 5 7)))) σ36) fun r44 => some (r44.2, r44.1)) else (some (σ36, (-1)))) fun r39 => hl (pI r39.1 5 9 r39.2) fun σ49 => some σ49
set_option maxRecDepth 20000 in
set_option maxHeartbeats 4000000 in
theorem ll_X5_word_0 {l : Launch} {E : hc_E} {A : Nat → Prop} {am : Nat → Nat → Nat} {d : Nat} {X : hc_X} (n : Nat) (hD : 11 ≤ d) (hem : X.2.2.2.2.2.2.2.2.2.1.exceptionTable.isEmpty = true) {oc : hc_Oc} {σe : hc_St} (hC : hc_C hc_V0 E cX5_word 3 RX5 none d oc σe (l, A, am, [2, 3, 4, 12, 22]) X) : ∀ (m : Nat) (σ : hc_St)  (rl : hc_St) (am1 : Nat → Nat → Nat), lp_X5_word_0 n m  σ = some rl → (hc_At hc_V0 E 3 X 35 [(0, .ref (E.2.1 5))] [] rl am1 []) → hc_At hc_V0 E 3 X 0 [(0, .ref (E.2.1 5))] [] σ am1 [] := by
  have hd1 : 1 ≤ d := by omega
  have hd8 : 9 ≤ d := by omega
  intro m
  induction m with
  | zero =>
    intro σ  rl am1 h
    cases h
  | succ m ih =>
    intro σ  rl am1 h JX
    rw [lp_X5_word_0] at h
    refine hr_aload_n hC dX5_word_0 rfl ?_
    refine hr_iconst (v := 0) hC dX5_word_1 rfl ?_
    obtain ⟨r1, e2, h⟩ := hx_bind h
    refine hs_callV0 hC 5 [_] _ dX5_word_2 q1083 q1085 qs1 q319 q1086 np_X5 rfl OB_5 pd_X5_look (Nat.le_of_ble_eq_true rfl) hd1 (okX5_look l E A (d - 1)  (by omega)  e2 am1) rfl ?_
    obtain ⟨r5, e6, h⟩ := hx_bind h
    refine hs_callS0 hC [_] _ dX5_word_5 q1096 q1097 q319 q1098 np_X5 rfl pd_X5_isLetter (Nat.le_of_ble_eq_true rfl) hd1 (okX5_isLetter l E A (d - 1)  (by omega)  e6 am1) rfl ?_
    refine hr_if_ne (x := _) hC 22 dX5_word_8 (by decide) (fun c10 => ?_) (fun c10 => ?_)
    · rw [if_neg c10] at h
      refine hr_aload_n hC dX5_word_22 rfl ?_
      refine hr_dup hC dX5_word_23 rfl ?_
      refine hr_gI hC F5_5 dX5_word_24 q490 ?_
      refine hr_iconst (v := 1) hC dX5_word_27 rfl ?_
      refine hr_iadd hC dX5_word_28 ?_
      obtain ⟨σ11, hσ11, h⟩ := hl_ok h
      refine hr_pI hC F5_5 PX5_5 dX5_word_29 q490 ?_
      rw [← hσ11]
      refine hr_goto hC 0 dX5_word_32 (by decide) ?_
      exact hr_sub _ rfl (ih _  _ am1 h JX)
    · rw [if_pos c10] at h
      refine hr_aload_n hC dX5_word_11 rfl ?_
      refine hr_iconst (v := 0) hC dX5_word_12 rfl ?_
      obtain ⟨r12, e13, h⟩ := hx_bind h
      refine hs_callV0 hC 5 [_] _ dX5_word_13 q1083 q1085 qs1 q319 q1086 np_X5 rfl OB_5 pd_X5_look (Nat.le_of_ble_eq_true rfl) hd1 (okX5_look l E A (d - 1)  (by omega)  e13 am1) rfl ?_
      obtain ⟨r16, e17, h⟩ := hx_bind h
      refine hs_callS0 hC [_] _ dX5_word_16 q1103 q1104 q319 q1105 np_X5 rfl pd_X5_isDigit (Nat.le_of_ble_eq_true rfl) hd1 (okX5_isDigit l E A (d - 1)  (by omega)  e17 am1) rfl ?_
      refine hr_if_eq (x := _) hC 35 dX5_word_19 (by decide) (fun c21 => ?_) (fun c21 => ?_)
      · rw [if_pos c21] at h
        obtain rfl := Option.some.inj h
        exact hr_sub _ rfl (JX)
      · rw [if_neg c21] at h
        refine hr_aload_n hC dX5_word_22 rfl ?_
        refine hr_dup hC dX5_word_23 rfl ?_
        refine hr_gI hC F5_5 dX5_word_24 q490 ?_
        refine hr_iconst (v := 1) hC dX5_word_27 rfl ?_
        refine hr_iadd hC dX5_word_28 ?_
        obtain ⟨σ22, hσ22, h⟩ := hl_ok h
        refine hr_pI hC F5_5 PX5_5 dX5_word_29 q490 ?_
        rw [← hσ22]
        refine hr_goto hC 0 dX5_word_32 (by decide) ?_
        exact hr_sub _ rfl (ih _  _ am1 h JX)
set_option maxRecDepth 20000 in
set_option maxHeartbeats 4000000 in
theorem okX5_word (l : Launch) (E : hc_E) (A : Nat → Prop) (d : Nat) (n : Nat) (hD : 11 ≤ d)  {σ : hc_St} {r : hc_St} (h : fm_X5_word n  σ = some r) (am : Nat → Nat → Nat) : hc_M l hc_V0 yX5_word (ws_ yX5_word cX5_word 3 none) d E A [.ref (E.2.1 5)] am [2, 3, 4, 12, 22] σ (.inl none) r := by
  have hd1 : 1 ≤ d := by omega
  have hd8 : 9 ≤ d := by omega
  refine hc_enter2 (own := RX5) [(0, .ref (E.2.1 5))] pl_X5 rfl hc_V0_st hc_G0_nd rfl (Nat.le_of_ble_eq_true rfl) (fun X hC hem => ?_)
  unfold fm_X5_word at h
  obtain ⟨r23, e24, h⟩ := hx_bind h
  refine hr_sub _ rfl (ll_X5_word_0 n hD hem hC n _  _ am e24 ?_)
  refine hr_aload_n hC dX5_word_35 rfl ?_
  refine hr_gI hC F5_5 dX5_word_36 q490 ?_
  refine hr_aload_n hC dX5_word_39 rfl ?_
  refine hr_gI hC F5_7 dX5_word_40 q492 ?_
  refine hr_isub hC dX5_word_43 ?_
  refine hr_istore_n hC dX5_word_44 (by decide) ?_
  refine hr_aload_n hC dX5_word_45 rfl ?_
  refine hr_gO 1 hC F5_0 rfl dX5_word_46 q485 ?_
  refine hr_aload_n hC dX5_word_49 rfl ?_
  obtain ⟨c28, h⟩ := hk_ok h
  refine hr_g6 22 hC F5_4 rfl (of_decide_eq_true c28) dX5_word_50 q489 ?_
  refine hr_aload_n hC dX5_word_53 rfl ?_
  refine hr_gI hC F5_7 dX5_word_54 q492 ?_
  refine hr_iload_n hC dX5_word_57 rfl ?_
  obtain ⟨r29, e30, h⟩ := hx_bind h
  refine hs_callV0 hC 1 [_, _, _] _ dX5_word_58 q1106 q1107 q1108 q316 q1109 np_X2 rfl OB_1 pd_X2_find (Nat.le_of_ble_eq_true rfl) hd1 (okX2_find l E A (d - 1) n (by omega) (by unfold hc_by; decide) e30 am) rfl ?_
  refine hr_istore_n hC dX5_word_61 (by decide) ?_
  refine hr_aload_n hC dX5_word_62 rfl ?_
  refine hr_iload_n hC dX5_word_63 rfl ?_
  refine hr_iconst (v := (-1)) hC dX5_word_64 rfl ?_
  obtain ⟨v35, hv35, h⟩ := hl_ok h
  have J50 : ∀ w51 : Int32, (if r29 = (-1) then (if (((gI r23 5 5)) - ((gI r23 5 7))) ≤ 24 then 1 else 4) else (200 + r29)) = w51 → hc_At hc_V0 E 3 X 87 [(0, .ref (E.2.1 5)), (1, .int (((gI r23 5 5)) - ((gI r23 5 7))))] [.int w51, .ref (E.2.1 5)] r23 am [] := by
    intro w51 hw51
    obtain rfl := hv35.trans hw51
    obtain ⟨σ36, hσ36, h⟩ := hl_ok h
    refine hr_pI hC F5_6 PX5_6 dX5_word_87 q491 ?_
    rw [← hσ36]
    refine hr_aload_n hC dX5_word_90 rfl ?_
    refine hr_aload_n hC dX5_word_91 rfl ?_
    refine hr_gI hC F5_6 dX5_word_92 q491 ?_
    refine hr_iconst (v := 1) hC dX5_word_95 rfl ?_
    obtain ⟨r39, e40, h⟩ := hx_bind h
    have J41 : ∀ am48, hc_At hc_V0 E 3 X 119 [] [.int r39.2, .ref (E.2.1 5)] r39.1 am48 [] := by
      intro am48
      obtain ⟨σ49, hσ49, h⟩ := hl_ok h
      refine hr_pI hC F5_9 PX5_9 dX5_word_119 q494 ?_
      rw [← hσ49]
      obtain rfl := Option.some.inj h
      exact hr_vret hC dX5_word_122
    clear h
    have h := e40
    refine hr_icmp_ne (x := _) hC 118 dX5_word_96 (by decide) (fun c38 => ?_) (fun c38 => ?_)
    · rw [if_neg c38] at h
      refine hr_iconst (v := (-1)) hC dX5_word_118 rfl ?_
      obtain rfl := Option.some.inj h
      exact hr_sub _ rfl (J41 am)
    · rw [if_pos c38] at h
      refine hr_aload_n hC dX5_word_99 rfl ?_
      refine hr_gO 2 hC F5_1 rfl dX5_word_100 q486 ?_
      refine hr_aload_n hC dX5_word_103 rfl ?_
      obtain ⟨c43, h⟩ := hk_ok h
      refine hr_g6 22 hC F5_4 rfl (of_decide_eq_true c43) dX5_word_104 q489 ?_
      refine hr_aload_n hC dX5_word_107 rfl ?_
      refine hr_gI hC F5_7 dX5_word_108 q492 ?_
      refine hr_iload_n hC dX5_word_111 rfl ?_
      obtain ⟨r44, e45, h⟩ := hx_bind h
      refine hs_callV hC 2 [_, _, _] _ dX5_word_112 q1162 q1163 q1164 q317 q1165 np_X3 rfl OB_2 pd_X3_of (Nat.le_of_ble_eq_true rfl) hd1 (okX3_of l E A (d - 1) n (by omega) (by unfold hc_by; decide) e45 am) (hc_rb rfl) rfl (fun am46 ha47 => ?_)
      refine hr_goto hC 119 dX5_word_115 (by decide) ?_
      obtain rfl := Option.some.inj h
      exact hr_sub _ rfl (J41 am46)
  refine hr_icmp_eq (x := _) hC 76 dX5_word_65 (by decide) (fun c52 => ?_) (fun c52 => ?_)
  · refine hr_iload_n hC dX5_word_76 rfl ?_
    refine hr_bipush (v := 24) hC dX5_word_77 rfl ?_
    refine hr_icmp_le (x := _) hC 86 dX5_word_79 (by decide) (fun c53 => ?_) (fun c53 => ?_)
    · refine hr_iconst (v := 1) hC dX5_word_86 rfl ?_
      exact hr_sub _ rfl (J50 _ (by first | (rw [if_pos c52, if_pos c53]; done) | (simp only [if_pos c52, if_pos c53]; done) | rfl))
    · refine hr_iconst (v := 4) hC dX5_word_82 rfl ?_
      refine hr_goto hC 87 dX5_word_83 (by decide) ?_
      exact hr_sub _ rfl (J50 _ (by first | (rw [if_pos c52, if_neg c53]; done) | (simp only [if_pos c52, if_neg c53]; done) | rfl))
  · refine hr_sipush (v := 200) hC dX5_word_68 rfl ?_
    refine hr_iload_n hC dX5_word_71 rfl ?_
    refine hr_iadd hC dX5_word_72 ?_
    refine hr_goto hC 87 dX5_word_73 (by decide) ?_
    exact hr_sub _ rfl (J50 _ (by first | (rw [if_neg c52]; done) | (simp only [if_neg c52]; done) | rfl))
/-- HomeCompiler$Scanner.figure(I)I -/
def fm_X5_figure  (x0 : Int32) (σ : hc_St) : Option Int32 := Option.bind (fm_X5_isDigit x0 σ) fun r1 => hl (α := Int32) ((if r1 = 0 then (if x0 < 97 then (if x0 < 65 then (-1) else (if 70 < x0 then (-1) else (((x0 - 65)) + 10))) else (if 102 < x0 then (if x0 < 65 then (-1) else (if 70 < x0 then (-1) else (((x0 - 65)) + 10))) else (((x0 - 97)) + 10))) else (x0 - 48))) fun v7 => some v7
set_option maxRecDepth 20000 in
set_option maxHeartbeats 4000000 in
theorem okX5_figure (l : Launch) (E : hc_E) (A : Nat → Prop) (d : Nat)  (hD : 2 ≤ d) {x0 : Int32} {σ : hc_St} {r : Int32} (h : fm_X5_figure  x0 σ = some r) (am : Nat → Nat → Nat) : hc_M l hc_V0 yX5_figure (ws_ yX5_figure cX5_figure 1 (some .int)) d E A [.int x0] am [] σ (.inl (some (.int r))) σ := by
  have hd1 : 1 ≤ d := by omega
  refine hc_enter2 (own := RX5) [(0, .int x0)] pl_X5 rfl hc_V0_st hc_G0_nd rfl (Nat.le_of_ble_eq_true rfl) (fun X hC hem => ?_)
  unfold fm_X5_figure at h
  refine hr_iload_n hC dX5_figure_0 rfl ?_
  obtain ⟨r1, e2, h⟩ := hx_bind h
  refine hs_callS0 hC [_] _ dX5_figure_1 q1103 q1104 q319 q1105 np_X5 rfl pd_X5_isDigit (Nat.le_of_ble_eq_true rfl) hd1 (okX5_isDigit l E A (d - 1)  (by omega)  e2 am) rfl ?_
  obtain ⟨v7, hv7, h⟩ := hl_ok h
  have J8 : ∀ w9 : Int32, (if r1 = 0 then (if x0 < 97 then (if x0 < 65 then (-1) else (if 70 < x0 then (-1) else (((x0 - 65)) + 10))) else (if 102 < x0 then (if x0 < 65 then (-1) else (if 70 < x0 then (-1) else (((x0 - 65)) + 10))) else (((x0 - 97)) + 10))) else (x0 - 48)) = w9 → hc_At hc_V0 E 1 X 59 [] [.int w9] σ am [] := by
    intro w9 hw9
    obtain rfl := hv7.trans hw9
    obtain rfl := Option.some.inj h
    exact hr_iret hC dX5_figure_59
  refine hr_if_eq (x := _) hC 14 dX5_figure_4 (by decide) (fun c10 => ?_) (fun c10 => ?_)
  · refine hr_iload_n hC dX5_figure_14 rfl ?_
    refine hr_bipush (v := 97) hC dX5_figure_15 rfl ?_
    refine hr_icmp_lt (x := _) hC 36 dX5_figure_17 (by decide) (fun c11 => ?_) (fun c11 => ?_)
    · refine hr_iload_n hC dX5_figure_36 rfl ?_
      refine hr_bipush (v := 65) hC dX5_figure_37 rfl ?_
      refine hr_icmp_lt (x := _) hC 58 dX5_figure_39 (by decide) (fun c12 => ?_) (fun c12 => ?_)
      · refine hr_iconst (v := (-1)) hC dX5_figure_58 rfl ?_
        exact hr_sub _ rfl (J8 _ (by first | (rw [if_pos c10, if_pos c11, if_pos c12]; done) | (simp only [if_pos c10, if_pos c11, if_pos c12]; done) | rfl))
      · refine hr_iload_n hC dX5_figure_42 rfl ?_
        refine hr_bipush (v := 70) hC dX5_figure_43 rfl ?_
        refine hr_icmp_gt (x := _) hC 58 dX5_figure_45 (by decide) (fun c13 => ?_) (fun c13 => ?_)
        · refine hr_iconst (v := (-1)) hC dX5_figure_58 rfl ?_
          exact hr_sub _ rfl (J8 _ (by first | (rw [if_pos c10, if_pos c11, if_neg c12, if_pos c13]; done) | (simp only [if_pos c10, if_pos c11, if_neg c12, if_pos c13]; done) | rfl))
        · refine hr_iload_n hC dX5_figure_48 rfl ?_
          refine hr_bipush (v := 65) hC dX5_figure_49 rfl ?_
          refine hr_isub hC dX5_figure_51 ?_
          refine hr_bipush (v := 10) hC dX5_figure_52 rfl ?_
          refine hr_iadd hC dX5_figure_54 ?_
          refine hr_goto hC 59 dX5_figure_55 (by decide) ?_
          exact hr_sub _ rfl (J8 _ (by first | (rw [if_pos c10, if_pos c11, if_neg c12, if_neg c13]; done) | (simp only [if_pos c10, if_pos c11, if_neg c12, if_neg c13]; done) | rfl))
    · refine hr_iload_n hC dX5_figure_20 rfl ?_
      refine hr_bipush (v := 102) hC dX5_figure_21 rfl ?_
      refine hr_icmp_gt (x := _) hC 36 dX5_figure_23 (by decide) (fun c14 => ?_) (fun c14 => ?_)
      · refine hr_iload_n hC dX5_figure_36 rfl ?_
        refine hr_bipush (v := 65) hC dX5_figure_37 rfl ?_
        refine hr_icmp_lt (x := _) hC 58 dX5_figure_39 (by decide) (fun c15 => ?_) (fun c15 => ?_)
        · refine hr_iconst (v := (-1)) hC dX5_figure_58 rfl ?_
          exact hr_sub _ rfl (J8 _ (by first | (rw [if_pos c10, if_neg c11, if_pos c14, if_pos c15]; done) | (simp only [if_pos c10, if_neg c11, if_pos c14, if_pos c15]; done) | rfl))
        · refine hr_iload_n hC dX5_figure_42 rfl ?_
          refine hr_bipush (v := 70) hC dX5_figure_43 rfl ?_
          refine hr_icmp_gt (x := _) hC 58 dX5_figure_45 (by decide) (fun c16 => ?_) (fun c16 => ?_)
          · refine hr_iconst (v := (-1)) hC dX5_figure_58 rfl ?_
            exact hr_sub _ rfl (J8 _ (by first | (rw [if_pos c10, if_neg c11, if_pos c14, if_neg c15, if_pos c16]; done) | (simp only [if_pos c10, if_neg c11, if_pos c14, if_neg c15, if_pos c16]; done) | rfl))
          · refine hr_iload_n hC dX5_figure_48 rfl ?_
            refine hr_bipush (v := 65) hC dX5_figure_49 rfl ?_
            refine hr_isub hC dX5_figure_51 ?_
            refine hr_bipush (v := 10) hC dX5_figure_52 rfl ?_
            refine hr_iadd hC dX5_figure_54 ?_
            refine hr_goto hC 59 dX5_figure_55 (by decide) ?_
            exact hr_sub _ rfl (J8 _ (by first | (rw [if_pos c10, if_neg c11, if_pos c14, if_neg c15, if_neg c16]; done) | (simp only [if_pos c10, if_neg c11, if_pos c14, if_neg c15, if_neg c16]; done) | rfl))
      · refine hr_iload_n hC dX5_figure_26 rfl ?_
        refine hr_bipush (v := 97) hC dX5_figure_27 rfl ?_
        refine hr_isub hC dX5_figure_29 ?_
        refine hr_bipush (v := 10) hC dX5_figure_30 rfl ?_
        refine hr_iadd hC dX5_figure_32 ?_
        refine hr_goto hC 59 dX5_figure_33 (by decide) ?_
        exact hr_sub _ rfl (J8 _ (by first | (rw [if_pos c10, if_neg c11, if_neg c14]; done) | (simp only [if_pos c10, if_neg c11, if_neg c14]; done) | rfl))
  · refine hr_iload_n hC dX5_figure_7 rfl ?_
    refine hr_bipush (v := 48) hC dX5_figure_8 rfl ?_
    refine hr_isub hC dX5_figure_10 ?_
    refine hr_goto hC 59 dX5_figure_11 (by decide) ?_
    exact hr_sub _ rfl (J8 _ (by first | (rw [if_neg c10]; done) | (simp only [if_neg c10]; done) | rfl))
def lp_X5_digits_64 (n : Nat) : Nat → Int64 → Int32 → Int32 → Int32 → hc_St → Option (hc_St × Int64 × Int32)
  | 0, _, _, _, _, _ => none
  | m + 1, y1, y3, y4, y5, σ => if y5 < 0 then (some (σ, y1, y3)) else (if y4 ≤ y5 then (some (σ, y1, y3)) else (hl (α := Int64) ((if 10 ≤ y3 then y1 else (((y1 * ((y4.toInt64)))) + ((y5.toInt64))))) fun v35 => hl (pI σ 5 5 ((((gI σ 5 5)) + 1))) fun σ36 => Option.bind (fm_X5_look 0 σ36) fun r37 => Option.bind (fm_X5_figure r37 σ36) fun r41 => lp_X5_digits_64 n m v35 ((y3 + 1)) y4 r41 σ36))
/-- HomeCompiler$Scanner.digits()V -/
def fm_X5_digits (n : Nat)  (σ : hc_St) : Option hc_St := Option.bind (fm_X5_look 0 σ) fun r1 => Option.bind (α := Int32) (if r1 = 48 then (Option.bind (fm_X5_look 1 σ) fun r11 => if r11 = 120 then (some (16)) else (some (10))) else (some (10))) fun r7 => hl (α := Int32) ((if r7 = 16 then 2 else 0)) fun v19 => hl (pI σ 5 5 ((((gI σ 5 5)) + v19))) fun σ20 => Option.bind (fm_X5_look 0 σ20) fun r21 => Option.bind (fm_X5_figure r21 σ20) fun r25 => Option.bind (lp_X5_digits_64 n n 0 0 r7 r25 σ20) fun r48 => hl (α := Int32) ((if r7 = 16 then (if r48.2.2 ≤ 0 then 0 else (if 8 < r48.2.2 then 0 else 1)) else (if 10 < r48.2.2 then 0 else (if (lg_cmp ((jlush r48.2.1 32)) 0) = 0 then 1 else 0)))) fun v55 => hl (α := Int32) ((if v55 = 0 then 4 else 2)) fun v58 => hl (pI r48.1 5 6 v58) fun σ59 => hl (pI σ59 5 8 ((r48.2.1.toInt32))) fun σ60 => some σ60
set_option maxRecDepth 20000 in
set_option maxHeartbeats 4000000 in
theorem ll_X5_digits_64 {l : Launch} {E : hc_E} {A : Nat → Prop} {am : Nat → Nat → Nat} {d : Nat} {X : hc_X} (n : Nat) (hD : 3 ≤ d) (hem : X.2.2.2.2.2.2.2.2.2.1.exceptionTable.isEmpty = true) {oc : hc_Oc} {σe : hc_St} (hC : hc_C hc_V0 E cX5_digits 7 RX5 none d oc σe (l, A, am, []) X) : ∀ (m : Nat) (σ : hc_St) (y1 : Int64) (y3 : Int32) (y4 : Int32) (y5 : Int32) (rl : hc_St × Int64 × Int32) (am1 : Nat → Nat → Nat), lp_X5_digits_64 n m y1 y3 y4 y5 σ = some rl → (hc_At hc_V0 E 7 X 122 [(0, .ref (E.2.1 5)), (1, .long rl.2.1), (3, .int rl.2.2), (4, .int y4)] [] rl.1 am1 []) → hc_At hc_V0 E 7 X 64 [(0, .ref (E.2.1 5)), (1, .long y1), (3, .int y3), (4, .int y4), (5, .int y5)] [] σ am1 [] := by
  have hd1 : 1 ≤ d := by omega
  intro m
  induction m with
  | zero =>
    intro σ y1 y3 y4 y5 rl am1 h
    cases h
  | succ m ih =>
    intro σ y1 y3 y4 y5 rl am1 h JX
    rw [lp_X5_digits_64] at h
    refine hr_iload hC dX5_digits_64 rfl ?_
    refine hr_if_lt (x := _) hC 122 dX5_digits_66 (by decide) (fun c30 => ?_) (fun c30 => ?_)
    · rw [if_pos c30] at h
      obtain rfl := Option.some.inj h
      exact hr_sub _ rfl (JX)
    · rw [if_neg c30] at h
      refine hr_iload hC dX5_digits_69 rfl ?_
      refine hr_iload hC dX5_digits_71 rfl ?_
      refine hr_icmp_ge (x := _) hC 122 dX5_digits_73 (by decide) (fun c32 => ?_) (fun c32 => ?_)
      · rw [if_pos c32] at h
        obtain rfl := Option.some.inj h
        exact hr_sub _ rfl (JX)
      · rw [if_neg c32] at h
        refine hr_iload_n hC dX5_digits_76 rfl ?_
        refine hr_bipush (v := 10) hC dX5_digits_77 rfl ?_
        obtain ⟨v35, hv35, h⟩ := hl_ok h
        have J45 : ∀ w46 : Int64, (if 10 ≤ y3 then y1 else (((y1 * ((y4.toInt64)))) + ((y5.toInt64)))) = w46 → hc_At hc_V0 E 7 X 95 [(0, .ref (E.2.1 5)), (3, .int y3), (4, .int y4)] [.long w46] σ am1 [] := by
          intro w46 hw46
          obtain rfl := hv35.trans hw46
          refine hr_lstore_n hC dX5_digits_95 (by decide) ?_
          refine hr_iinc (v := y3 + 1) hC dX5_digits_96 rfl rfl (by decide) ?_
          refine hr_aload_n hC dX5_digits_99 rfl ?_
          refine hr_dup hC dX5_digits_100 rfl ?_
          refine hr_gI hC F5_5 dX5_digits_101 q490 ?_
          refine hr_iconst (v := 1) hC dX5_digits_104 rfl ?_
          refine hr_iadd hC dX5_digits_105 ?_
          obtain ⟨σ36, hσ36, h⟩ := hl_ok h
          refine hr_pI hC F5_5 PX5_5 dX5_digits_106 q490 ?_
          rw [← hσ36]
          refine hr_aload_n hC dX5_digits_109 rfl ?_
          refine hr_iconst (v := 0) hC dX5_digits_110 rfl ?_
          obtain ⟨r37, e38, h⟩ := hx_bind h
          refine hs_callV0 hC 5 [_] _ dX5_digits_111 q1083 q1085 qs1 q319 q1086 np_X5 rfl OB_5 pd_X5_look (Nat.le_of_ble_eq_true rfl) hd1 (okX5_look l E A (d - 1)  (by omega)  e38 am1) rfl ?_
          obtain ⟨r41, e42, h⟩ := hx_bind h
          refine hs_callS0 hC [_] _ dX5_digits_114 q1195 q1196 q319 q1197 np_X5 rfl pd_X5_figure (Nat.le_of_ble_eq_true rfl) hd1 (okX5_figure l E A (d - 1)  (by omega)  e42 am1) rfl ?_
          refine hr_istore hC dX5_digits_117 (by decide) ?_
          refine hr_goto hC 64 dX5_digits_119 (by decide) ?_
          exact hr_sub _ rfl (ih _ _ _ _ _ _ am1 h JX)
        refine hr_icmp_ge (x := _) hC 94 dX5_digits_79 (by decide) (fun c47 => ?_) (fun c47 => ?_)
        · refine hr_lload_n hC dX5_digits_94 rfl ?_
          exact hr_sub _ rfl (J45 _ (by first | (rw [if_pos c47]; done) | (simp only [if_pos c47]; done) | rfl))
        · refine hr_lload_n hC dX5_digits_82 rfl ?_
          refine hr_iload hC dX5_digits_83 rfl ?_
          refine hr_i2l hC dX5_digits_85 ?_
          refine hr_lmul hC dX5_digits_86 ?_
          refine hr_iload hC dX5_digits_87 rfl ?_
          refine hr_i2l hC dX5_digits_89 ?_
          refine hr_ladd hC dX5_digits_90 ?_
          refine hr_goto hC 95 dX5_digits_91 (by decide) ?_
          exact hr_sub _ rfl (J45 _ (by first | (rw [if_neg c47]; done) | (simp only [if_neg c47]; done) | rfl))
set_option maxRecDepth 20000 in
set_option maxHeartbeats 4000000 in
theorem okX5_digits (l : Launch) (E : hc_E) (A : Nat → Prop) (d : Nat) (n : Nat) (hD : 3 ≤ d)  {σ : hc_St} {r : hc_St} (h : fm_X5_digits n  σ = some r) (am : Nat → Nat → Nat) : hc_M l hc_V0 yX5_digits (ws_ yX5_digits cX5_digits 7 none) d E A [.ref (E.2.1 5)] am [] σ (.inl none) r := by
  have hd1 : 1 ≤ d := by omega
  refine hc_enter2 (own := RX5) [(0, .ref (E.2.1 5))] pl_X5 rfl hc_V0_st hc_G0_nd rfl (Nat.le_of_ble_eq_true rfl) (fun X hC hem => ?_)
  unfold fm_X5_digits at h
  refine hr_lconst (v := 0) hC dX5_digits_0 rfl ?_
  refine hr_lstore_n hC dX5_digits_1 (by decide) ?_
  refine hr_iconst (v := 0) hC dX5_digits_2 rfl ?_
  refine hr_istore_n hC dX5_digits_3 (by decide) ?_
  refine hr_aload_n hC dX5_digits_4 rfl ?_
  refine hr_iconst (v := 0) hC dX5_digits_5 rfl ?_
  obtain ⟨r1, e2, h⟩ := hx_bind h
  refine hs_callV0 hC 5 [_] _ dX5_digits_6 q1083 q1085 qs1 q319 q1086 np_X5 rfl OB_5 pd_X5_look (Nat.le_of_ble_eq_true rfl) hd1 (okX5_look l E A (d - 1)  (by omega)  e2 am) rfl ?_
  refine hr_bipush (v := 48) hC dX5_digits_9 rfl ?_
  obtain ⟨r7, e8, h⟩ := hx_bind h
  have J9 : hc_At hc_V0 E 7 X 31 [(0, .ref (E.2.1 5)), (1, .long 0), (3, .int 0)] [.int r7] σ am [] := by
    refine hr_istore hC dX5_digits_31 (by decide) ?_
    refine hr_aload_n hC dX5_digits_33 rfl ?_
    refine hr_dup hC dX5_digits_34 rfl ?_
    refine hr_gI hC F5_5 dX5_digits_35 q490 ?_
    refine hr_iload hC dX5_digits_38 rfl ?_
    refine hr_bipush (v := 16) hC dX5_digits_40 rfl ?_
    obtain ⟨v19, hv19, h⟩ := hl_ok h
    have J71 : ∀ w72 : Int32, (if r7 = 16 then 2 else 0) = w72 → hc_At hc_V0 E 7 X 50 [(0, .ref (E.2.1 5)), (1, .long 0), (3, .int 0), (4, .int r7)] [.int w72, .int (gI σ 5 5), .ref (E.2.1 5)] σ am [] := by
      intro w72 hw72
      obtain rfl := hv19.trans hw72
      refine hr_iadd hC dX5_digits_50 ?_
      obtain ⟨σ20, hσ20, h⟩ := hl_ok h
      refine hr_pI hC F5_5 PX5_5 dX5_digits_51 q490 ?_
      rw [← hσ20]
      refine hr_aload_n hC dX5_digits_54 rfl ?_
      refine hr_iconst (v := 0) hC dX5_digits_55 rfl ?_
      obtain ⟨r21, e22, h⟩ := hx_bind h
      refine hs_callV0 hC 5 [_] _ dX5_digits_56 q1083 q1085 qs1 q319 q1086 np_X5 rfl OB_5 pd_X5_look (Nat.le_of_ble_eq_true rfl) hd1 (okX5_look l E A (d - 1)  (by omega)  e22 am) rfl ?_
      obtain ⟨r25, e26, h⟩ := hx_bind h
      refine hs_callS0 hC [_] _ dX5_digits_59 q1195 q1196 q319 q1197 np_X5 rfl pd_X5_figure (Nat.le_of_ble_eq_true rfl) hd1 (okX5_figure l E A (d - 1)  (by omega)  e26 am) rfl ?_
      refine hr_istore hC dX5_digits_62 (by decide) ?_
      obtain ⟨r48, e49, h⟩ := hx_bind h
      refine hr_sub _ rfl (ll_X5_digits_64 n hD hem hC n _ _ _ _ _ _ am e49 ?_)
      refine hr_iload hC dX5_digits_122 rfl ?_
      refine hr_bipush (v := 16) hC dX5_digits_124 rfl ?_
      obtain ⟨v55, hv55, h⟩ := hl_ok h
      have J64 : ∀ w65 : Int32, (if r7 = 16 then (if r48.2.2 ≤ 0 then 0 else (if 8 < r48.2.2 then 0 else 1)) else (if 10 < r48.2.2 then 0 else (if (lg_cmp ((jlush r48.2.1 32)) 0) = 0 then 1 else 0))) = w65 → hc_At hc_V0 E 7 X 167 [(0, .ref (E.2.1 5)), (1, .long r48.2.1)] [.int w65] r48.1 am [] := by
        intro w65 hw65
        obtain rfl := hv55.trans hw65
        refine hr_istore hC dX5_digits_167 (by decide) ?_
        refine hr_aload_n hC dX5_digits_169 rfl ?_
        refine hr_iload hC dX5_digits_170 rfl ?_
        obtain ⟨v58, hv58, h⟩ := hl_ok h
        have J61 : ∀ w62 : Int32, (if v55 = 0 then 4 else 2) = w62 → hc_At hc_V0 E 7 X 180 [(0, .ref (E.2.1 5)), (1, .long r48.2.1)] [.int w62, .ref (E.2.1 5)] r48.1 am [] := by
          intro w62 hw62
          obtain rfl := hv58.trans hw62
          obtain ⟨σ59, hσ59, h⟩ := hl_ok h
          refine hr_pI hC F5_6 PX5_6 dX5_digits_180 q491 ?_
          rw [← hσ59]
          refine hr_aload_n hC dX5_digits_183 rfl ?_
          refine hr_lload_n hC dX5_digits_184 rfl ?_
          refine hr_l2i hC dX5_digits_185 ?_
          obtain ⟨σ60, hσ60, h⟩ := hl_ok h
          refine hr_pI hC F5_8 PX5_8 dX5_digits_186 q493 ?_
          rw [← hσ60]
          obtain rfl := Option.some.inj h
          exact hr_vret hC dX5_digits_189
        refine hr_if_eq (x := _) hC 179 dX5_digits_172 (by decide) (fun c63 => ?_) (fun c63 => ?_)
        · refine hr_iconst (v := 4) hC dX5_digits_179 rfl ?_
          exact hr_sub _ rfl (J61 _ (by first | (rw [if_pos c63]; done) | (simp only [if_pos c63]; done) | rfl))
        · refine hr_iconst (v := 2) hC dX5_digits_175 rfl ?_
          refine hr_goto hC 180 dX5_digits_176 (by decide) ?_
          exact hr_sub _ rfl (J61 _ (by first | (rw [if_neg c63]; done) | (simp only [if_neg c63]; done) | rfl))
      refine hr_icmp_ne (x := _) hC 147 dX5_digits_126 (by decide) (fun c66 => ?_) (fun c66 => ?_)
      · refine hr_iload_n hC dX5_digits_147 rfl ?_
        refine hr_bipush (v := 10) hC dX5_digits_148 rfl ?_
        refine hr_icmp_gt (x := _) hC 166 dX5_digits_150 (by decide) (fun c67 => ?_) (fun c67 => ?_)
        · refine hr_iconst (v := 0) hC dX5_digits_166 rfl ?_
          exact hr_sub _ rfl (J64 _ (by first | (rw [if_neg c66, if_pos c67]; done) | (simp only [if_neg c66, if_pos c67]; done) | rfl))
        · refine hr_lload_n hC dX5_digits_153 rfl ?_
          refine hr_bipush (v := 32) hC dX5_digits_154 rfl ?_
          refine hr_lushr hC dX5_digits_156 ?_
          refine hr_lconst (v := 0) hC dX5_digits_157 rfl ?_
          refine hr_lcmp hC dX5_digits_158 ?_
          refine hr_if_ne (x := _) hC 166 dX5_digits_159 (by decide) (fun c68 => ?_) (fun c68 => ?_)
          · refine hr_iconst (v := 0) hC dX5_digits_166 rfl ?_
            exact hr_sub _ rfl (J64 _ (by first | (rw [if_neg c66, if_neg c67, if_neg c68]; done) | (simp only [if_neg c66, if_neg c67, if_neg c68]; done) | rfl))
          · refine hr_iconst (v := 1) hC dX5_digits_162 rfl ?_
            refine hr_goto hC 167 dX5_digits_163 (by decide) ?_
            exact hr_sub _ rfl (J64 _ (by first | (rw [if_neg c66, if_neg c67, if_pos c68]; done) | (simp only [if_neg c66, if_neg c67, if_pos c68]; done) | rfl))
      · refine hr_iload_n hC dX5_digits_129 rfl ?_
        refine hr_if_le (x := _) hC 143 dX5_digits_130 (by decide) (fun c69 => ?_) (fun c69 => ?_)
        · refine hr_iconst (v := 0) hC dX5_digits_143 rfl ?_
          refine hr_goto hC 167 dX5_digits_144 (by decide) ?_
          exact hr_sub _ rfl (J64 _ (by first | (rw [if_pos c66, if_pos c69]; done) | (simp only [if_pos c66, if_pos c69]; done) | rfl))
        · refine hr_iload_n hC dX5_digits_133 rfl ?_
          refine hr_bipush (v := 8) hC dX5_digits_134 rfl ?_
          refine hr_icmp_gt (x := _) hC 143 dX5_digits_136 (by decide) (fun c70 => ?_) (fun c70 => ?_)
          · refine hr_iconst (v := 0) hC dX5_digits_143 rfl ?_
            refine hr_goto hC 167 dX5_digits_144 (by decide) ?_
            exact hr_sub _ rfl (J64 _ (by first | (rw [if_pos c66, if_neg c69, if_pos c70]; done) | (simp only [if_pos c66, if_neg c69, if_pos c70]; done) | rfl))
          · refine hr_iconst (v := 1) hC dX5_digits_139 rfl ?_
            refine hr_goto hC 167 dX5_digits_140 (by decide) ?_
            exact hr_sub _ rfl (J64 _ (by first | (rw [if_pos c66, if_neg c69, if_neg c70]; done) | (simp only [if_pos c66, if_neg c69, if_neg c70]; done) | rfl))
    refine hr_icmp_ne (x := _) hC 49 dX5_digits_42 (by decide) (fun c73 => ?_) (fun c73 => ?_)
    · refine hr_iconst (v := 0) hC dX5_digits_49 rfl ?_
      exact hr_sub _ rfl (J71 _ (by first | (rw [if_neg c73]; done) | (simp only [if_neg c73]; done) | rfl))
    · refine hr_iconst (v := 2) hC dX5_digits_45 rfl ?_
      refine hr_goto hC 50 dX5_digits_46 (by decide) ?_
      exact hr_sub _ rfl (J71 _ (by first | (rw [if_pos c73]; done) | (simp only [if_pos c73]; done) | rfl))
  clear h
  have h := e8
  refine hr_icmp_ne (x := _) hC 29 dX5_digits_11 (by decide) (fun c6 => ?_) (fun c6 => ?_)
  · rw [if_neg c6] at h
    refine hr_bipush (v := 10) hC dX5_digits_29 rfl ?_
    obtain rfl := Option.some.inj h
    exact hr_sub _ rfl (J9)
  · rw [if_pos c6] at h
    refine hr_aload_n hC dX5_digits_14 rfl ?_
    refine hr_iconst (v := 1) hC dX5_digits_15 rfl ?_
    obtain ⟨r11, e12, h⟩ := hx_bind h
    refine hs_callV0 hC 5 [_] _ dX5_digits_16 q1083 q1085 qs1 q319 q1086 np_X5 rfl OB_5 pd_X5_look (Nat.le_of_ble_eq_true rfl) hd1 (okX5_look l E A (d - 1)  (by omega)  e12 am) rfl ?_
    refine hr_bipush (v := 120) hC dX5_digits_19 rfl ?_
    refine hr_icmp_ne (x := _) hC 29 dX5_digits_21 (by decide) (fun c16 => ?_) (fun c16 => ?_)
    · rw [if_neg c16] at h
      refine hr_bipush (v := 10) hC dX5_digits_29 rfl ?_
      obtain rfl := Option.some.inj h
      exact hr_sub _ rfl (J9)
    · rw [if_pos c16] at h
      refine hr_bipush (v := 16) hC dX5_digits_24 rfl ?_
      refine hr_goto hC 31 dX5_digits_26 (by decide) ?_
      obtain rfl := Option.some.inj h
      exact hr_sub _ rfl (J9)
/-- HomeCompiler$Scanner.character()V -/
def fm_X5_character   (σ : hc_St) : Option hc_St := Option.bind (fm_X5_look 1 σ) fun r1 => Option.bind (fm_X5_look 2 σ) fun r5 => hl (α := Int32) ((if r1 = 92 then 1 else 0)) fun v11 => hl (α := Int32) ((if v11 = 0 then r1 else (if r5 = 110 then 10 else (if r5 = 48 then 0 else (if r5 = 39 then r5 else (if r5 = 92 then r5 else (-1))))))) fun v14 => hl (α := Int32) ((if v11 = 0 then (if r1 < 32 then 0 else (if 126 < r1 then 0 else (if r1 = 39 then 0 else 1))) else (if v14 < 0 then 0 else 1))) fun v17 => hl (α := Int32) ((if v11 = 0 then 2 else 3)) fun v20 => Option.bind (α := Int32) (if v17 = 0 then (some (4)) else (Option.bind (fm_X5_look v20 σ) fun r27 => if r27 = 39 then (some (2)) else (some (4)))) fun r23 => hl (pI σ 5 6 r23) fun σ33 => hl (pI σ33 5 8 v14) fun σ34 => hl (pI σ34 5 5 ((((gI σ34 5 5)) + ((v20 + 1))))) fun σ35 => some σ35
set_option maxRecDepth 20000 in
set_option maxHeartbeats 4000000 in
theorem okX5_character (l : Launch) (E : hc_E) (A : Nat → Prop) (d : Nat)  (hD : 3 ≤ d)  {σ : hc_St} {r : hc_St} (h : fm_X5_character   σ = some r) (am : Nat → Nat → Nat) : hc_M l hc_V0 yX5_character (ws_ yX5_character cX5_character 7 none) d E A [.ref (E.2.1 5)] am [] σ (.inl none) r := by
  have hd1 : 1 ≤ d := by omega
  refine hc_enter2 (own := RX5) [(0, .ref (E.2.1 5))] pl_X5 rfl hc_V0_st hc_G0_nd rfl (Nat.le_of_ble_eq_true rfl) (fun X hC hem => ?_)
  unfold fm_X5_character at h
  refine hr_aload_n hC dX5_character_0 rfl ?_
  refine hr_iconst (v := 1) hC dX5_character_1 rfl ?_
  obtain ⟨r1, e2, h⟩ := hx_bind h
  refine hs_callV0 hC 5 [_] _ dX5_character_2 q1083 q1085 qs1 q319 q1086 np_X5 rfl OB_5 pd_X5_look (Nat.le_of_ble_eq_true rfl) hd1 (okX5_look l E A (d - 1)  (by omega)  e2 am) rfl ?_
  refine hr_istore_n hC dX5_character_5 (by decide) ?_
  refine hr_aload_n hC dX5_character_6 rfl ?_
  refine hr_iconst (v := 2) hC dX5_character_7 rfl ?_
  obtain ⟨r5, e6, h⟩ := hx_bind h
  refine hs_callV0 hC 5 [_] _ dX5_character_8 q1083 q1085 qs1 q319 q1086 np_X5 rfl OB_5 pd_X5_look (Nat.le_of_ble_eq_true rfl) hd1 (okX5_look l E A (d - 1)  (by omega)  e6 am) rfl ?_
  refine hr_istore_n hC dX5_character_11 (by decide) ?_
  refine hr_iload_n hC dX5_character_12 rfl ?_
  refine hr_bipush (v := 92) hC dX5_character_13 rfl ?_
  obtain ⟨v11, hv11, h⟩ := hl_ok h
  have J53 : ∀ w54 : Int32, (if r1 = 92 then 1 else 0) = w54 → hc_At hc_V0 E 7 X 23 [(0, .ref (E.2.1 5)), (1, .int r1), (2, .int r5)] [.int w54] σ am [] := by
    intro w54 hw54
    obtain rfl := hv11.trans hw54
    refine hr_istore_n hC dX5_character_23 (by decide) ?_
    refine hr_iload_n hC dX5_character_24 rfl ?_
    obtain ⟨v14, hv14, h⟩ := hl_ok h
    have J46 : ∀ w47 : Int32, (if v11 = 0 then r1 else (if r5 = 110 then 10 else (if r5 = 48 then 0 else (if r5 = 39 then r5 else (if r5 = 92 then r5 else (-1)))))) = w47 → hc_At hc_V0 E 7 X 70 [(0, .ref (E.2.1 5)), (1, .int r1), (3, .int v11)] [.int w47] σ am [] := by
      intro w47 hw47
      obtain rfl := hv14.trans hw47
      refine hr_istore hC dX5_character_70 (by decide) ?_
      refine hr_iload_n hC dX5_character_72 rfl ?_
      obtain ⟨v17, hv17, h⟩ := hl_ok h
      have J39 : ∀ w40 : Int32, (if v11 = 0 then (if r1 < 32 then 0 else (if 126 < r1 then 0 else (if r1 = 39 then 0 else 1))) else (if v14 < 0 then 0 else 1)) = w40 → hc_At hc_V0 E 7 X 112 [(0, .ref (E.2.1 5)), (3, .int v11), (4, .int v14)] [.int w40] σ am [] := by
        intro w40 hw40
        obtain rfl := hv17.trans hw40
        refine hr_istore hC dX5_character_112 (by decide) ?_
        refine hr_iload_n hC dX5_character_114 rfl ?_
        obtain ⟨v20, hv20, h⟩ := hl_ok h
        have J36 : ∀ w37 : Int32, (if v11 = 0 then 2 else 3) = w37 → hc_At hc_V0 E 7 X 123 [(0, .ref (E.2.1 5)), (4, .int v14), (5, .int v17)] [.int w37] σ am [] := by
          intro w37 hw37
          obtain rfl := hv20.trans hw37
          refine hr_istore hC dX5_character_123 (by decide) ?_
          refine hr_aload_n hC dX5_character_125 rfl ?_
          refine hr_iload hC dX5_character_126 rfl ?_
          obtain ⟨r23, e24, h⟩ := hx_bind h
          have J25 : hc_At hc_V0 E 7 X 147 [(0, .ref (E.2.1 5)), (4, .int v14), (6, .int v20)] [.int r23, .ref (E.2.1 5)] σ am [] := by
            obtain ⟨σ33, hσ33, h⟩ := hl_ok h
            refine hr_pI hC F5_6 PX5_6 dX5_character_147 q491 ?_
            rw [← hσ33]
            refine hr_aload_n hC dX5_character_150 rfl ?_
            refine hr_iload hC dX5_character_151 rfl ?_
            obtain ⟨σ34, hσ34, h⟩ := hl_ok h
            refine hr_pI hC F5_8 PX5_8 dX5_character_153 q493 ?_
            rw [← hσ34]
            refine hr_aload_n hC dX5_character_156 rfl ?_
            refine hr_dup hC dX5_character_157 rfl ?_
            refine hr_gI hC F5_5 dX5_character_158 q490 ?_
            refine hr_iload hC dX5_character_161 rfl ?_
            refine hr_iconst (v := 1) hC dX5_character_163 rfl ?_
            refine hr_iadd hC dX5_character_164 ?_
            refine hr_iadd hC dX5_character_165 ?_
            obtain ⟨σ35, hσ35, h⟩ := hl_ok h
            refine hr_pI hC F5_5 PX5_5 dX5_character_166 q490 ?_
            rw [← hσ35]
            obtain rfl := Option.some.inj h
            exact hr_vret hC dX5_character_169
          clear h
          have h := e24
          refine hr_if_eq (x := _) hC 146 dX5_character_128 (by decide) (fun c22 => ?_) (fun c22 => ?_)
          · rw [if_pos c22] at h
            refine hr_iconst (v := 4) hC dX5_character_146 rfl ?_
            obtain rfl := Option.some.inj h
            exact hr_sub _ rfl (J25)
          · rw [if_neg c22] at h
            refine hr_aload_n hC dX5_character_131 rfl ?_
            refine hr_iload hC dX5_character_132 rfl ?_
            obtain ⟨r27, e28, h⟩ := hx_bind h
            refine hs_callV0 hC 5 [_] _ dX5_character_134 q1083 q1085 qs1 q319 q1086 np_X5 rfl OB_5 pd_X5_look (Nat.le_of_ble_eq_true rfl) hd1 (okX5_look l E A (d - 1)  (by omega)  e28 am) rfl ?_
            refine hr_bipush (v := 39) hC dX5_character_137 rfl ?_
            refine hr_icmp_ne (x := _) hC 146 dX5_character_139 (by decide) (fun c32 => ?_) (fun c32 => ?_)
            · rw [if_neg c32] at h
              refine hr_iconst (v := 4) hC dX5_character_146 rfl ?_
              obtain rfl := Option.some.inj h
              exact hr_sub _ rfl (J25)
            · rw [if_pos c32] at h
              refine hr_iconst (v := 2) hC dX5_character_142 rfl ?_
              refine hr_goto hC 147 dX5_character_143 (by decide) ?_
              obtain rfl := Option.some.inj h
              exact hr_sub _ rfl (J25)
        refine hr_if_eq (x := _) hC 122 dX5_character_115 (by decide) (fun c38 => ?_) (fun c38 => ?_)
        · refine hr_iconst (v := 2) hC dX5_character_122 rfl ?_
          exact hr_sub _ rfl (J36 _ (by first | (rw [if_pos c38]; done) | (simp only [if_pos c38]; done) | rfl))
        · refine hr_iconst (v := 3) hC dX5_character_118 rfl ?_
          refine hr_goto hC 123 dX5_character_119 (by decide) ?_
          exact hr_sub _ rfl (J36 _ (by first | (rw [if_neg c38]; done) | (simp only [if_neg c38]; done) | rfl))
      refine hr_if_eq (x := _) hC 89 dX5_character_73 (by decide) (fun c41 => ?_) (fun c41 => ?_)
      · refine hr_iload_n hC dX5_character_89 rfl ?_
        refine hr_bipush (v := 32) hC dX5_character_90 rfl ?_
        refine hr_icmp_lt (x := _) hC 111 dX5_character_92 (by decide) (fun c42 => ?_) (fun c42 => ?_)
        · refine hr_iconst (v := 0) hC dX5_character_111 rfl ?_
          exact hr_sub _ rfl (J39 _ (by first | (rw [if_pos c41, if_pos c42]; done) | (simp only [if_pos c41, if_pos c42]; done) | rfl))
        · refine hr_iload_n hC dX5_character_95 rfl ?_
          refine hr_bipush (v := 126) hC dX5_character_96 rfl ?_
          refine hr_icmp_gt (x := _) hC 111 dX5_character_98 (by decide) (fun c43 => ?_) (fun c43 => ?_)
          · refine hr_iconst (v := 0) hC dX5_character_111 rfl ?_
            exact hr_sub _ rfl (J39 _ (by first | (rw [if_pos c41, if_neg c42, if_pos c43]; done) | (simp only [if_pos c41, if_neg c42, if_pos c43]; done) | rfl))
          · refine hr_iload_n hC dX5_character_101 rfl ?_
            refine hr_bipush (v := 39) hC dX5_character_102 rfl ?_
            refine hr_icmp_eq (x := _) hC 111 dX5_character_104 (by decide) (fun c44 => ?_) (fun c44 => ?_)
            · refine hr_iconst (v := 0) hC dX5_character_111 rfl ?_
              exact hr_sub _ rfl (J39 _ (by first | (rw [if_pos c41, if_neg c42, if_neg c43, if_pos c44]; done) | (simp only [if_pos c41, if_neg c42, if_neg c43, if_pos c44]; done) | rfl))
            · refine hr_iconst (v := 1) hC dX5_character_107 rfl ?_
              refine hr_goto hC 112 dX5_character_108 (by decide) ?_
              exact hr_sub _ rfl (J39 _ (by first | (rw [if_pos c41, if_neg c42, if_neg c43, if_neg c44]; done) | (simp only [if_pos c41, if_neg c42, if_neg c43, if_neg c44]; done) | rfl))
      · refine hr_iload hC dX5_character_76 rfl ?_
        refine hr_if_lt (x := _) hC 85 dX5_character_78 (by decide) (fun c45 => ?_) (fun c45 => ?_)
        · refine hr_iconst (v := 0) hC dX5_character_85 rfl ?_
          refine hr_goto hC 112 dX5_character_86 (by decide) ?_
          exact hr_sub _ rfl (J39 _ (by first | (rw [if_neg c41, if_pos c45]; done) | (simp only [if_neg c41, if_pos c45]; done) | rfl))
        · refine hr_iconst (v := 1) hC dX5_character_81 rfl ?_
          refine hr_goto hC 112 dX5_character_82 (by decide) ?_
          exact hr_sub _ rfl (J39 _ (by first | (rw [if_neg c41, if_neg c45]; done) | (simp only [if_neg c41, if_neg c45]; done) | rfl))
    refine hr_if_ne (x := _) hC 32 dX5_character_25 (by decide) (fun c48 => ?_) (fun c48 => ?_)
    · refine hr_iload_n hC dX5_character_32 rfl ?_
      refine hr_bipush (v := 110) hC dX5_character_33 rfl ?_
      refine hr_icmp_ne (x := _) hC 43 dX5_character_35 (by decide) (fun c49 => ?_) (fun c49 => ?_)
      · refine hr_iload_n hC dX5_character_43 rfl ?_
        refine hr_bipush (v := 48) hC dX5_character_44 rfl ?_
        refine hr_icmp_ne (x := _) hC 53 dX5_character_46 (by decide) (fun c50 => ?_) (fun c50 => ?_)
        · refine hr_iload_n hC dX5_character_53 rfl ?_
          refine hr_bipush (v := 39) hC dX5_character_54 rfl ?_
          refine hr_icmp_eq (x := _) hC 65 dX5_character_56 (by decide) (fun c51 => ?_) (fun c51 => ?_)
          · refine hr_iload_n hC dX5_character_65 rfl ?_
            refine hr_goto hC 70 dX5_character_66 (by decide) ?_
            exact hr_sub _ rfl (J46 _ (by first | (rw [if_neg c48, if_neg c49, if_neg c50, if_pos c51]; done) | (simp only [if_neg c48, if_neg c49, if_neg c50, if_pos c51]; done) | rfl))
          · refine hr_iload_n hC dX5_character_59 rfl ?_
            refine hr_bipush (v := 92) hC dX5_character_60 rfl ?_
            refine hr_icmp_ne (x := _) hC 69 dX5_character_62 (by decide) (fun c52 => ?_) (fun c52 => ?_)
            · refine hr_iconst (v := (-1)) hC dX5_character_69 rfl ?_
              exact hr_sub _ rfl (J46 _ (by first | (rw [if_neg c48, if_neg c49, if_neg c50, if_neg c51, if_neg c52]; done) | (simp only [if_neg c48, if_neg c49, if_neg c50, if_neg c51, if_neg c52]; done) | rfl))
            · refine hr_iload_n hC dX5_character_65 rfl ?_
              refine hr_goto hC 70 dX5_character_66 (by decide) ?_
              exact hr_sub _ rfl (J46 _ (by first | (rw [if_neg c48, if_neg c49, if_neg c50, if_neg c51, if_pos c52]; done) | (simp only [if_neg c48, if_neg c49, if_neg c50, if_neg c51, if_pos c52]; done) | rfl))
        · refine hr_iconst (v := 0) hC dX5_character_49 rfl ?_
          refine hr_goto hC 70 dX5_character_50 (by decide) ?_
          exact hr_sub _ rfl (J46 _ (by first | (rw [if_neg c48, if_neg c49, if_pos c50]; done) | (simp only [if_neg c48, if_neg c49, if_pos c50]; done) | rfl))
      · refine hr_bipush (v := 10) hC dX5_character_38 rfl ?_
        refine hr_goto hC 70 dX5_character_40 (by decide) ?_
        exact hr_sub _ rfl (J46 _ (by first | (rw [if_neg c48, if_pos c49]; done) | (simp only [if_neg c48, if_pos c49]; done) | rfl))
    · refine hr_iload_n hC dX5_character_28 rfl ?_
      refine hr_goto hC 70 dX5_character_29 (by decide) ?_
      exact hr_sub _ rfl (J46 _ (by first | (rw [if_pos c48]; done) | (simp only [if_pos c48]; done) | rfl))
  refine hr_icmp_ne (x := _) hC 22 dX5_character_15 (by decide) (fun c55 => ?_) (fun c55 => ?_)
  · refine hr_iconst (v := 0) hC dX5_character_22 rfl ?_
    exact hr_sub _ rfl (J53 _ (by first | (rw [if_neg c55]; done) | (simp only [if_neg c55]; done) | rfl))
  · refine hr_iconst (v := 1) hC dX5_character_18 rfl ?_
    refine hr_goto hC 23 dX5_character_19 (by decide) ?_
    exact hr_sub _ rfl (J53 _ (by first | (rw [if_pos c55]; done) | (simp only [if_pos c55]; done) | rfl))
/-- HomeCompiler$Scanner.stringLength()I -/
def fm_X5_stringLength   (σ : hc_St) : Option Int32 := Option.bind (fm_X4_size 4 σ) fun r1 => some ((r1 - ((gI σ 5 10))))
set_option maxRecDepth 20000 in
set_option maxHeartbeats 4000000 in
theorem okX5_stringLength (l : Launch) (E : hc_E) (A : Nat → Prop) (d : Nat)  (hD : 2 ≤ d)  {σ : hc_St} {r : Int32} (h : fm_X5_stringLength   σ = some r) (am : Nat → Nat → Nat) : hc_M l hc_V0 yX5_stringLength (ws_ yX5_stringLength cX5_stringLength 1 (some .int)) d E A [.ref (E.2.1 5)] am [] σ (.inl (some (.int r))) σ := by
  have hd1 : 1 ≤ d := by omega
  refine hc_enter2 (own := RX5) [(0, .ref (E.2.1 5))] pl_X5 rfl hc_V0_st hc_G0_nd rfl (Nat.le_of_ble_eq_true rfl) (fun X hC hem => ?_)
  unfold fm_X5_stringLength at h
  refine hr_aload_n hC dX5_stringLength_0 rfl ?_
  refine hr_gO 4 hC F5_2 rfl dX5_stringLength_1 q487 ?_
  obtain ⟨r1, e2, h⟩ := hx_bind h
  refine hs_callV0 hC 4 [] _ dX5_stringLength_4 q1087 q1068 q1069 q318 q1070 np_X4 rfl OB_4 pd_X4_size (Nat.le_of_ble_eq_true rfl) hd1 (okX4_size l E A (d - 1)  (by omega) (by unfold hc_by; decide) e2 am) rfl ?_
  refine hr_aload_n hC dX5_stringLength_7 rfl ?_
  refine hr_gI hC F5_10 dX5_stringLength_8 q495 ?_
  refine hr_isub hC dX5_stringLength_11 ?_
  obtain rfl := Option.some.inj h
  exact hr_iret hC dX5_stringLength_12
def lp_X5_quoted_25 (n : Nat) : Nat → Int32 → Int32 → hc_St → Option (hc_St × Int32)
  | 0, _, _, _ => none
  | m + 1, y1, y2, σ => if y1 = 0 then (some (σ, y2)) else (Option.bind (fm_X5_look 0 σ) fun r9 => Option.bind (fm_X5_look 1 σ) fun r13 => hl (α := Int32) ((if r9 = 92 then (if r13 = 110 then 10 else (if r13 = 48 then 0 else (if r13 = 34 then r13 else (if r13 = 92 then r13 else (-1))))) else r9)) fun v19 => hl (α := Int32) ((if r9 = 34 then 1 else 0)) fun v22 => Option.bind (α := Int32) (if v22 = 0 then (hk (decide (gI σ 5 4 ≠ 0)) <| Option.bind (fm_X4_size 22 σ) fun r30 => if r30 ≤ (gI σ 5 5) then (some (0)) else (if r9 = 92 then (if v19 < 0 then (some (0)) else (some (1))) else (if r9 < 32 then (some (0)) else (if 126 < r9 then (some (0)) else (some (1)))))) else (some (0))) fun r25 => Option.bind (α := hc_St) (if r25 = 0 then (some (σ)) else (Option.bind (fm_X4_add 4 v19 σ) fun r50 => hl (α := Int32) ((if r9 = 92 then 2 else 1)) fun v56 => hl (pI r50 5 5 ((((gI r50 5 5)) + v56))) fun σ57 => some (σ57))) fun r46 => lp_X5_quoted_25 n m r25 v22 r46)
/-- HomeCompiler$Scanner.quoted()V -/
def fm_X5_quoted (n : Nat)  (σ : hc_St) : Option hc_St := Option.bind (fm_X4_size 4 σ) fun r1 => hl (pI σ 5 10 r1) fun σ5 => hl (pI σ5 5 5 ((((gI σ5 5 5)) + 1))) fun σ6 => Option.bind (lp_X5_quoted_25 n n 1 0 σ6) fun r72 => hl (pI r72.1 5 5 ((((gI r72.1 5 5)) + 1))) fun σ77 => Option.bind (α := Int32) (if r72.2 = 0 then (some (4)) else (Option.bind (fm_X5_stringLength  σ77) fun r84 => if 200 < r84 then (some (4)) else (some (3)))) fun r80 => hl (pI σ77 5 6 r80) fun σ90 => some σ90
set_option maxRecDepth 20000 in
set_option maxHeartbeats 4000000 in
theorem ll_X5_quoted_25 {l : Launch} {E : hc_E} {A : Nat → Prop} {am : Nat → Nat → Nat} {d : Nat} {X : hc_X} (n : Nat) (hD : 3 ≤ d) (hem : X.2.2.2.2.2.2.2.2.2.1.exceptionTable.isEmpty = true) {oc : hc_Oc} {σe : hc_St} (hC : hc_C hc_V0 E cX5_quoted 6 RX5 none d oc σe (l, A, am, [3, 4, 12, 22]) X) : ∀ (m : Nat) (σ : hc_St) (y1 : Int32) (y2 : Int32) (rl : hc_St × Int32), lp_X5_quoted_25 n m y1 y2 σ = some rl → (∀ am1, hc_At hc_V0 E 6 X 195 [(0, .ref (E.2.1 5)), (2, .int rl.2)] [] rl.1 am1 []) → ∀ am1, hc_At hc_V0 E 6 X 25 [(0, .ref (E.2.1 5)), (1, .int y1), (2, .int y2)] [] σ am1 [] := by
  have hd1 : 1 ≤ d := by omega
  intro m
  induction m with
  | zero =>
    intro σ y1 y2 rl h
    cases h
  | succ m ih =>
    intro σ y1 y2 rl h JX am1
    rw [lp_X5_quoted_25] at h
    refine hr_iload_n hC dX5_quoted_25 rfl ?_
    refine hr_if_eq (x := _) hC 195 dX5_quoted_26 (by decide) (fun c8 => ?_) (fun c8 => ?_)
    · rw [if_pos c8] at h
      obtain rfl := Option.some.inj h
      exact hr_sub _ rfl (JX am1)
    · rw [if_neg c8] at h
      refine hr_aload_n hC dX5_quoted_29 rfl ?_
      refine hr_iconst (v := 0) hC dX5_quoted_30 rfl ?_
      obtain ⟨r9, e10, h⟩ := hx_bind h
      refine hs_callV0 hC 5 [_] _ dX5_quoted_31 q1083 q1085 qs1 q319 q1086 np_X5 rfl OB_5 pd_X5_look (Nat.le_of_ble_eq_true rfl) hd1 (okX5_look l E A (d - 1)  (by omega)  e10 am1) rfl ?_
      refine hr_istore_n hC dX5_quoted_34 (by decide) ?_
      refine hr_aload_n hC dX5_quoted_35 rfl ?_
      refine hr_iconst (v := 1) hC dX5_quoted_36 rfl ?_
      obtain ⟨r13, e14, h⟩ := hx_bind h
      refine hs_callV0 hC 5 [_] _ dX5_quoted_37 q1083 q1085 qs1 q319 q1086 np_X5 rfl OB_5 pd_X5_look (Nat.le_of_ble_eq_true rfl) hd1 (okX5_look l E A (d - 1)  (by omega)  e14 am1) rfl ?_
      refine hr_istore hC dX5_quoted_40 (by decide) ?_
      refine hr_iload_n hC dX5_quoted_42 rfl ?_
      refine hr_bipush (v := 92) hC dX5_quoted_43 rfl ?_
      obtain ⟨v19, hv19, h⟩ := hl_ok h
      have J65 : ∀ w66 : Int32, (if r9 = 92 then (if r13 = 110 then 10 else (if r13 = 48 then 0 else (if r13 = 34 then r13 else (if r13 = 92 then r13 else (-1))))) else r9) = w66 → hc_At hc_V0 E 6 X 95 [(0, .ref (E.2.1 5)), (3, .int r9)] [.int w66] σ am1 [] := by
        intro w66 hw66
        obtain rfl := hv19.trans hw66
        refine hr_istore hC dX5_quoted_95 (by decide) ?_
        refine hr_iload_n hC dX5_quoted_97 rfl ?_
        refine hr_bipush (v := 34) hC dX5_quoted_98 rfl ?_
        obtain ⟨v22, hv22, h⟩ := hl_ok h
        have J62 : ∀ w63 : Int32, (if r9 = 34 then 1 else 0) = w63 → hc_At hc_V0 E 6 X 108 [(0, .ref (E.2.1 5)), (3, .int r9), (5, .int v19)] [.int w63] σ am1 [] := by
          intro w63 hw63
          obtain rfl := hv22.trans hw63
          refine hr_istore_n hC dX5_quoted_108 (by decide) ?_
          refine hr_iload_n hC dX5_quoted_109 rfl ?_
          obtain ⟨r25, e26, h⟩ := hx_bind h
          have J27 : hc_At hc_V0 E 6 X 158 [(0, .ref (E.2.1 5)), (2, .int v22), (3, .int r9), (5, .int v19)] [.int r25] σ am1 [] := by
            refine hr_istore_n hC dX5_quoted_158 (by decide) ?_
            refine hr_iload_n hC dX5_quoted_159 rfl ?_
            obtain ⟨r46, e47, h⟩ := hx_bind h
            have J48 : ∀ am61, hc_At hc_V0 E 6 X 192 [(0, .ref (E.2.1 5)), (1, .int r25), (2, .int v22)] [] r46 am61 [] := by
              intro am61
              refine hr_goto hC 25 dX5_quoted_192 (by decide) ?_
              exact hr_sub _ rfl (ih _ _ _ _ h JX am61)
            clear h
            have h := e47
            refine hr_if_eq (x := _) hC 192 dX5_quoted_160 (by decide) (fun c45 => ?_) (fun c45 => ?_)
            · rw [if_pos c45] at h
              obtain rfl := Option.some.inj h
              exact hr_sub _ rfl (J48 am1)
            · rw [if_neg c45] at h
              refine hr_aload_n hC dX5_quoted_163 rfl ?_
              refine hr_gO 4 hC F5_2 rfl dX5_quoted_164 q487 ?_
              refine hr_iload hC dX5_quoted_167 rfl ?_
              obtain ⟨r50, e51, h⟩ := hx_bind h
              refine hs_callV hC 4 [_] _ dX5_quoted_169 q1206 q1187 q1188 q318 q1189 np_X4 rfl OB_4 pd_X4_add (Nat.le_of_ble_eq_true rfl) hd1 (okX4_add l E A (d - 1)  (by omega) (by unfold hc_by; decide) e51 am1) (hc_rb rfl) rfl (fun am52 ha53 => ?_)
              refine hr_aload_n hC dX5_quoted_172 rfl ?_
              refine hr_dup hC dX5_quoted_173 rfl ?_
              refine hr_gI hC F5_5 dX5_quoted_174 q490 ?_
              refine hr_iload_n hC dX5_quoted_177 rfl ?_
              refine hr_bipush (v := 92) hC dX5_quoted_178 rfl ?_
              obtain ⟨v56, hv56, h⟩ := hl_ok h
              have J58 : ∀ w59 : Int32, (if r9 = 92 then 2 else 1) = w59 → hc_At hc_V0 E 6 X 188 [(0, .ref (E.2.1 5)), (1, .int r25), (2, .int v22)] [.int w59, .int (gI r50 5 5), .ref (E.2.1 5)] r50 am52 [] := by
                intro w59 hw59
                obtain rfl := hv56.trans hw59
                refine hr_iadd hC dX5_quoted_188 ?_
                obtain ⟨σ57, hσ57, h⟩ := hl_ok h
                refine hr_pI hC F5_5 PX5_5 dX5_quoted_189 q490 ?_
                rw [← hσ57]
                obtain rfl := Option.some.inj h
                exact hr_sub _ rfl (J48 am52)
              refine hr_icmp_ne (x := _) hC 187 dX5_quoted_180 (by decide) (fun c60 => ?_) (fun c60 => ?_)
              · refine hr_iconst (v := 1) hC dX5_quoted_187 rfl ?_
                exact hr_sub _ rfl (J58 _ (by first | (rw [if_neg c60]; done) | (simp only [if_neg c60]; done) | rfl))
              · refine hr_iconst (v := 2) hC dX5_quoted_183 rfl ?_
                refine hr_goto hC 188 dX5_quoted_184 (by decide) ?_
                exact hr_sub _ rfl (J58 _ (by first | (rw [if_pos c60]; done) | (simp only [if_pos c60]; done) | rfl))
          clear h
          have h := e26
          refine hr_if_ne (x := _) hC 157 dX5_quoted_110 (by decide) (fun c24 => ?_) (fun c24 => ?_)
          · rw [if_neg c24] at h
            refine hr_iconst (v := 0) hC dX5_quoted_157 rfl ?_
            obtain rfl := Option.some.inj h
            exact hr_sub _ rfl (J27)
          · rw [if_pos c24] at h
            refine hr_aload_n hC dX5_quoted_113 rfl ?_
            refine hr_gI hC F5_5 dX5_quoted_114 q490 ?_
            refine hr_aload_n hC dX5_quoted_117 rfl ?_
            obtain ⟨c29, h⟩ := hk_ok h
            refine hr_g6 22 hC F5_4 rfl (of_decide_eq_true c29) dX5_quoted_118 q489 ?_
            obtain ⟨r30, e31, h⟩ := hx_bind h
            refine hs_callV0 hC 22 [] _ dX5_quoted_121 q1087 q1068 q1069 q318 q1070 np_X4 rfl OB_22 pd_X4_size (Nat.le_of_ble_eq_true rfl) hd1 (okX4_size l E A (d - 1)  (by omega) (by unfold hc_by; decide) e31 am1) rfl ?_
            refine hr_icmp_ge (x := _) hC 157 dX5_quoted_124 (by decide) (fun c35 => ?_) (fun c35 => ?_)
            · rw [if_pos c35] at h
              refine hr_iconst (v := 0) hC dX5_quoted_157 rfl ?_
              obtain rfl := Option.some.inj h
              exact hr_sub _ rfl (J27)
            · rw [if_neg c35] at h
              refine hr_iload_n hC dX5_quoted_127 rfl ?_
              refine hr_bipush (v := 92) hC dX5_quoted_128 rfl ?_
              refine hr_icmp_ne (x := _) hC 141 dX5_quoted_130 (by decide) (fun c37 => ?_) (fun c37 => ?_)
              · rw [if_neg c37] at h
                refine hr_iload_n hC dX5_quoted_141 rfl ?_
                refine hr_bipush (v := 32) hC dX5_quoted_142 rfl ?_
                refine hr_icmp_lt (x := _) hC 157 dX5_quoted_144 (by decide) (fun c39 => ?_) (fun c39 => ?_)
                · rw [if_pos c39] at h
                  refine hr_iconst (v := 0) hC dX5_quoted_157 rfl ?_
                  obtain rfl := Option.some.inj h
                  exact hr_sub _ rfl (J27)
                · rw [if_neg c39] at h
                  refine hr_iload_n hC dX5_quoted_147 rfl ?_
                  refine hr_bipush (v := 126) hC dX5_quoted_148 rfl ?_
                  refine hr_icmp_gt (x := _) hC 157 dX5_quoted_150 (by decide) (fun c41 => ?_) (fun c41 => ?_)
                  · rw [if_pos c41] at h
                    refine hr_iconst (v := 0) hC dX5_quoted_157 rfl ?_
                    obtain rfl := Option.some.inj h
                    exact hr_sub _ rfl (J27)
                  · rw [if_neg c41] at h
                    refine hr_iconst (v := 1) hC dX5_quoted_153 rfl ?_
                    refine hr_goto hC 158 dX5_quoted_154 (by decide) ?_
                    obtain rfl := Option.some.inj h
                    exact hr_sub _ rfl (J27)
              · rw [if_pos c37] at h
                refine hr_iload hC dX5_quoted_133 rfl ?_
                refine hr_if_lt (x := _) hC 157 dX5_quoted_135 (by decide) (fun c43 => ?_) (fun c43 => ?_)
                · rw [if_pos c43] at h
                  refine hr_iconst (v := 0) hC dX5_quoted_157 rfl ?_
                  obtain rfl := Option.some.inj h
                  exact hr_sub _ rfl (J27)
                · rw [if_neg c43] at h
                  refine hr_goto hC 153 dX5_quoted_138 (by decide) ?_
                  refine hr_iconst (v := 1) hC dX5_quoted_153 rfl ?_
                  refine hr_goto hC 158 dX5_quoted_154 (by decide) ?_
                  obtain rfl := Option.some.inj h
                  exact hr_sub _ rfl (J27)
        refine hr_icmp_ne (x := _) hC 107 dX5_quoted_100 (by decide) (fun c64 => ?_) (fun c64 => ?_)
        · refine hr_iconst (v := 0) hC dX5_quoted_107 rfl ?_
          exact hr_sub _ rfl (J62 _ (by first | (rw [if_neg c64]; done) | (simp only [if_neg c64]; done) | rfl))
        · refine hr_iconst (v := 1) hC dX5_quoted_103 rfl ?_
          refine hr_goto hC 108 dX5_quoted_104 (by decide) ?_
          exact hr_sub _ rfl (J62 _ (by first | (rw [if_pos c64]; done) | (simp only [if_pos c64]; done) | rfl))
      refine hr_icmp_eq (x := _) hC 52 dX5_quoted_45 (by decide) (fun c67 => ?_) (fun c67 => ?_)
      · refine hr_iload hC dX5_quoted_52 rfl ?_
        refine hr_bipush (v := 110) hC dX5_quoted_54 rfl ?_
        refine hr_icmp_ne (x := _) hC 64 dX5_quoted_56 (by decide) (fun c68 => ?_) (fun c68 => ?_)
        · refine hr_iload hC dX5_quoted_64 rfl ?_
          refine hr_bipush (v := 48) hC dX5_quoted_66 rfl ?_
          refine hr_icmp_ne (x := _) hC 75 dX5_quoted_68 (by decide) (fun c69 => ?_) (fun c69 => ?_)
          · refine hr_iload hC dX5_quoted_75 rfl ?_
            refine hr_bipush (v := 34) hC dX5_quoted_77 rfl ?_
            refine hr_icmp_eq (x := _) hC 89 dX5_quoted_79 (by decide) (fun c70 => ?_) (fun c70 => ?_)
            · refine hr_iload hC dX5_quoted_89 rfl ?_
              refine hr_goto hC 95 dX5_quoted_91 (by decide) ?_
              exact hr_sub _ rfl (J65 _ (by first | (rw [if_pos c67, if_neg c68, if_neg c69, if_pos c70]; done) | (simp only [if_pos c67, if_neg c68, if_neg c69, if_pos c70]; done) | rfl))
            · refine hr_iload hC dX5_quoted_82 rfl ?_
              refine hr_bipush (v := 92) hC dX5_quoted_84 rfl ?_
              refine hr_icmp_ne (x := _) hC 94 dX5_quoted_86 (by decide) (fun c71 => ?_) (fun c71 => ?_)
              · refine hr_iconst (v := (-1)) hC dX5_quoted_94 rfl ?_
                exact hr_sub _ rfl (J65 _ (by first | (rw [if_pos c67, if_neg c68, if_neg c69, if_neg c70, if_neg c71]; done) | (simp only [if_pos c67, if_neg c68, if_neg c69, if_neg c70, if_neg c71]; done) | rfl))
              · refine hr_iload hC dX5_quoted_89 rfl ?_
                refine hr_goto hC 95 dX5_quoted_91 (by decide) ?_
                exact hr_sub _ rfl (J65 _ (by first | (rw [if_pos c67, if_neg c68, if_neg c69, if_neg c70, if_pos c71]; done) | (simp only [if_pos c67, if_neg c68, if_neg c69, if_neg c70, if_pos c71]; done) | rfl))
          · refine hr_iconst (v := 0) hC dX5_quoted_71 rfl ?_
            refine hr_goto hC 95 dX5_quoted_72 (by decide) ?_
            exact hr_sub _ rfl (J65 _ (by first | (rw [if_pos c67, if_neg c68, if_pos c69]; done) | (simp only [if_pos c67, if_neg c68, if_pos c69]; done) | rfl))
        · refine hr_bipush (v := 10) hC dX5_quoted_59 rfl ?_
          refine hr_goto hC 95 dX5_quoted_61 (by decide) ?_
          exact hr_sub _ rfl (J65 _ (by first | (rw [if_pos c67, if_pos c68]; done) | (simp only [if_pos c67, if_pos c68]; done) | rfl))
      · refine hr_iload_n hC dX5_quoted_48 rfl ?_
        refine hr_goto hC 95 dX5_quoted_49 (by decide) ?_
        exact hr_sub _ rfl (J65 _ (by first | (rw [if_neg c67]; done) | (simp only [if_neg c67]; done) | rfl))
set_option maxRecDepth 20000 in
set_option maxHeartbeats 4000000 in
theorem okX5_quoted (l : Launch) (E : hc_E) (A : Nat → Prop) (d : Nat) (n : Nat) (hD : 3 ≤ d)  {σ : hc_St} {r : hc_St} (h : fm_X5_quoted n  σ = some r) (am : Nat → Nat → Nat) : hc_M l hc_V0 yX5_quoted (ws_ yX5_quoted cX5_quoted 6 none) d E A [.ref (E.2.1 5)] am [3, 4, 12, 22] σ (.inl none) r := by
  have hd1 : 1 ≤ d := by omega
  refine hc_enter2 (own := RX5) [(0, .ref (E.2.1 5))] pl_X5 rfl hc_V0_st hc_G0_nd rfl (Nat.le_of_ble_eq_true rfl) (fun X hC hem => ?_)
  unfold fm_X5_quoted at h
  refine hr_aload_n hC dX5_quoted_0 rfl ?_
  refine hr_aload_n hC dX5_quoted_1 rfl ?_
  refine hr_gO 4 hC F5_2 rfl dX5_quoted_2 q487 ?_
  obtain ⟨r1, e2, h⟩ := hx_bind h
  refine hs_callV0 hC 4 [] _ dX5_quoted_5 q1087 q1068 q1069 q318 q1070 np_X4 rfl OB_4 pd_X4_size (Nat.le_of_ble_eq_true rfl) hd1 (okX4_size l E A (d - 1)  (by omega) (by unfold hc_by; decide) e2 am) rfl ?_
  obtain ⟨σ5, hσ5, h⟩ := hl_ok h
  refine hr_pI hC F5_10 PX5_10 dX5_quoted_8 q495 ?_
  rw [← hσ5]
  refine hr_aload_n hC dX5_quoted_11 rfl ?_
  refine hr_dup hC dX5_quoted_12 rfl ?_
  refine hr_gI hC F5_5 dX5_quoted_13 q490 ?_
  refine hr_iconst (v := 1) hC dX5_quoted_16 rfl ?_
  refine hr_iadd hC dX5_quoted_17 ?_
  obtain ⟨σ6, hσ6, h⟩ := hl_ok h
  refine hr_pI hC F5_5 PX5_5 dX5_quoted_18 q490 ?_
  rw [← hσ6]
  refine hr_iconst (v := 1) hC dX5_quoted_21 rfl ?_
  refine hr_istore_n hC dX5_quoted_22 (by decide) ?_
  refine hr_iconst (v := 0) hC dX5_quoted_23 rfl ?_
  refine hr_istore_n hC dX5_quoted_24 (by decide) ?_
  obtain ⟨r72, e73, h⟩ := hx_bind h
  refine hr_sub _ rfl (ll_X5_quoted_25 n hD hem hC n _ _ _ _ e73 (fun am76 => ?_) am)
  refine hr_aload_n hC dX5_quoted_195 rfl ?_
  refine hr_dup hC dX5_quoted_196 rfl ?_
  refine hr_gI hC F5_5 dX5_quoted_197 q490 ?_
  refine hr_iconst (v := 1) hC dX5_quoted_200 rfl ?_
  refine hr_iadd hC dX5_quoted_201 ?_
  obtain ⟨σ77, hσ77, h⟩ := hl_ok h
  refine hr_pI hC F5_5 PX5_5 dX5_quoted_202 q490 ?_
  rw [← hσ77]
  refine hr_aload_n hC dX5_quoted_205 rfl ?_
  refine hr_iload_n hC dX5_quoted_206 rfl ?_
  obtain ⟨r80, e81, h⟩ := hx_bind h
  have J82 : hc_At hc_V0 E 6 X 225 [] [.int r80, .ref (E.2.1 5)] σ77 am76 [] := by
    obtain ⟨σ90, hσ90, h⟩ := hl_ok h
    refine hr_pI hC F5_6 PX5_6 dX5_quoted_225 q491 ?_
    rw [← hσ90]
    obtain rfl := Option.some.inj h
    exact hr_vret hC dX5_quoted_228
  clear h
  have h := e81
  refine hr_if_eq (x := _) hC 224 dX5_quoted_207 (by decide) (fun c79 => ?_) (fun c79 => ?_)
  · rw [if_pos c79] at h
    refine hr_iconst (v := 4) hC dX5_quoted_224 rfl ?_
    obtain rfl := Option.some.inj h
    exact hr_sub _ rfl (J82)
  · rw [if_neg c79] at h
    refine hr_aload_n hC dX5_quoted_210 rfl ?_
    obtain ⟨r84, e85, h⟩ := hx_bind h
    refine hs_callV0 hC 5 [] _ dX5_quoted_211 q1207 q1208 q1209 q319 q1210 np_X5 rfl OB_5 pd_X5_stringLength (Nat.le_of_ble_eq_true rfl) hd1 (okX5_stringLength l E A (d - 1)  (by omega)  e85 am76) rfl ?_
    refine hr_sipush (v := 200) hC dX5_quoted_214 rfl ?_
    refine hr_icmp_gt (x := _) hC 224 dX5_quoted_217 (by decide) (fun c89 => ?_) (fun c89 => ?_)
    · rw [if_pos c89] at h
      refine hr_iconst (v := 4) hC dX5_quoted_224 rfl ?_
      obtain rfl := Option.some.inj h
      exact hr_sub _ rfl (J82)
    · rw [if_neg c89] at h
      refine hr_iconst (v := 3) hC dX5_quoted_220 rfl ?_
      refine hr_goto hC 225 dX5_quoted_221 (by decide) ?_
      obtain rfl := Option.some.inj h
      exact hr_sub _ rfl (J82)
def lp_X5_isHere_4 (n : Nat) : Nat → Int32 → Int32 → Int32 → hc_St → Option (Int32)
  | 0, _, _, _, _ => none
  | m + 1, y1, y2, y3, σ => hk (hsi y1) <| if (sLen y1) ≤ y3 then (some (y2)) else (if y2 = 0 then (some (y2)) else (Option.bind (fm_X5_look y3 σ) fun r6 => hk (hsc y1 y3) <| hl (α := Int32) ((if r6 = (sCh y1 y3) then 1 else 0)) fun v13 => lp_X5_isHere_4 n m y1 v13 ((y3 + 1)) σ))
/-- HomeCompiler$Scanner.isHere(Ljava/lang/String;)Z -/
def fm_X5_isHere (n : Nat) (x1 : Int32) (σ : hc_St) : Option Int32 := Option.bind (lp_X5_isHere_4 n n x1 1 0 σ) fun r17 => hk (hb01 r17) <| some r17
set_option maxRecDepth 20000 in
set_option maxHeartbeats 4000000 in
theorem ll_X5_isHere_4 {l : Launch} {E : hc_E} {A : Nat → Prop} {am : Nat → Nat → Nat} {d : Nat} {X : hc_X} (n : Nat) (hD : 9 ≤ d) (hem : X.2.2.2.2.2.2.2.2.2.1.exceptionTable.isEmpty = true) {oc : hc_Oc} {σe : hc_St} (hC : hc_C hc_V0 E cX5_isHere 4 RX5 (some .boolean) d oc σe (l, A, am, []) X) : ∀ (m : Nat) (σ : hc_St) (y1 : Int32) (y2 : Int32) (y3 : Int32) (rl : Int32) (am1 : Nat → Nat → Nat), lp_X5_isHere_4 n m y1 y2 y3 σ = some rl → (hc_At hc_V0 E 4 X 41 [(2, .int rl)] [] σ am1 []) → hc_At hc_V0 E 4 X 4 [(0, .ref (E.2.1 5)), (1, .ref (E.2.2.2.1 (y1 : Int32).toNatClampNeg)), (2, .int y2), (3, .int y3)] [] σ am1 [] := by
  have hd1 : 1 ≤ d := by omega
  have hd8 : 9 ≤ d := by omega
  intro m
  induction m with
  | zero =>
    intro σ y1 y2 y3 rl am1 h
    cases h
  | succ m ih =>
    intro σ y1 y2 y3 rl am1 h JX
    rw [lp_X5_isHere_4] at h
    refine hr_iload_n hC dX5_isHere_4 rfl ?_
    refine hr_aload_n hC dX5_isHere_5 rfl ?_
    obtain ⟨c1, h⟩ := hk_ok h
    refine hr_slen hC c1 dX5_isHere_6 q1215 hd8 (Nat.le_of_ble_eq_true rfl) ?_
    refine hr_icmp_ge (x := _) hC 41 dX5_isHere_9 (by decide) (fun c3 => ?_) (fun c3 => ?_)
    · rw [if_pos c3] at h
      obtain rfl := Option.some.inj h
      exact hr_sub _ rfl (JX)
    · rw [if_neg c3] at h
      refine hr_iload_n hC dX5_isHere_12 rfl ?_
      refine hr_if_eq (x := _) hC 41 dX5_isHere_13 (by decide) (fun c5 => ?_) (fun c5 => ?_)
      · rw [if_pos c5] at h
        obtain rfl := Option.some.inj h
        exact hr_sub _ rfl (JX)
      · rw [if_neg c5] at h
        refine hr_aload_n hC dX5_isHere_16 rfl ?_
        refine hr_iload_n hC dX5_isHere_17 rfl ?_
        obtain ⟨r6, e7, h⟩ := hx_bind h
        refine hs_callV0 hC 5 [_] _ dX5_isHere_18 q1083 q1085 qs1 q319 q1086 np_X5 rfl OB_5 pd_X5_look (Nat.le_of_ble_eq_true rfl) hd1 (okX5_look l E A (d - 1)  (by omega)  e7 am1) rfl ?_
        refine hr_aload_n hC dX5_isHere_21 rfl ?_
        refine hr_iload_n hC dX5_isHere_22 rfl ?_
        obtain ⟨c10, h⟩ := hk_ok h
        refine hr_schar hC c10 dX5_isHere_23 q1220 hd8 (Nat.le_of_ble_eq_true rfl) ?_
        obtain ⟨v13, hv13, h⟩ := hl_ok h
        have J14 : ∀ w15 : Int32, (if r6 = (sCh y1 y3) then 1 else 0) = w15 → hc_At hc_V0 E 4 X 34 [(0, .ref (E.2.1 5)), (1, .ref (E.2.2.2.1 (y1 : Int32).toNatClampNeg)), (3, .int y3)] [.int w15] σ am1 [] := by
          intro w15 hw15
          obtain rfl := hv13.trans hw15
          refine hr_istore_n hC dX5_isHere_34 (by decide) ?_
          refine hr_iinc (v := y3 + 1) hC dX5_isHere_35 rfl rfl (by decide) ?_
          refine hr_goto hC 4 dX5_isHere_38 (by decide) ?_
          exact hr_sub _ rfl (ih _ _ _ _ _ am1 h JX)
        refine hr_icmp_ne (x := _) hC 33 dX5_isHere_26 (by decide) (fun c16 => ?_) (fun c16 => ?_)
        · refine hr_iconst (v := 0) hC dX5_isHere_33 rfl ?_
          exact hr_sub _ rfl (J14 _ (by first | (rw [if_neg c16]; done) | (simp only [if_neg c16]; done) | rfl))
        · refine hr_iconst (v := 1) hC dX5_isHere_29 rfl ?_
          refine hr_goto hC 34 dX5_isHere_30 (by decide) ?_
          exact hr_sub _ rfl (J14 _ (by first | (rw [if_pos c16]; done) | (simp only [if_pos c16]; done) | rfl))
set_option maxRecDepth 20000 in
set_option maxHeartbeats 4000000 in
theorem okX5_isHere (l : Launch) (E : hc_E) (A : Nat → Prop) (d : Nat) (n : Nat) (hD : 9 ≤ d) {x1 : Int32} {σ : hc_St} {r : Int32} (h : fm_X5_isHere n x1 σ = some r) (am : Nat → Nat → Nat) : hc_M l hc_V0 yX5_isHere (ws_ yX5_isHere cX5_isHere 4 (some .boolean)) d E A [.ref (E.2.1 5), .ref (E.2.2.2.1 (x1 : Int32).toNatClampNeg)] am [] σ (.inl (some (.int r))) σ := by
  have hd1 : 1 ≤ d := by omega
  have hd8 : 9 ≤ d := by omega
  refine hc_enter2 (own := RX5) [(0, .ref (E.2.1 5)), (1, .ref (E.2.2.2.1 (x1 : Int32).toNatClampNeg))] pl_X5 rfl hc_V0_st hc_G0_nd rfl (Nat.le_of_ble_eq_true rfl) (fun X hC hem => ?_)
  unfold fm_X5_isHere at h
  refine hr_iconst (v := 1) hC dX5_isHere_0 rfl ?_
  refine hr_istore_n hC dX5_isHere_1 (by decide) ?_
  refine hr_iconst (v := 0) hC dX5_isHere_2 rfl ?_
  refine hr_istore_n hC dX5_isHere_3 (by decide) ?_
  obtain ⟨r17, e18, h⟩ := hx_bind h
  refine hr_sub _ rfl (ll_X5_isHere_4 n hD hem hC n _ _ _ _ _ am e18 ?_)
  refine hr_iload_n hC dX5_isHere_41 rfl ?_
  obtain ⟨c22, h⟩ := hk_ok h
  obtain rfl := Option.some.inj h
  exact hr_zret hC (hb01_n c22) dX5_isHere_42
def lp_X5_mark_4 (n : Nat) : Nat → Int32 → Int32 → hc_St → Option (Int32)
  | 0, _, _, _ => none
  | m + 1, y1, y2, σ => if (nI (gL σ 5 3)) ≤ y2 then (some (y1)) else (Option.bind (α := Int32) (if y1 = (-1) then (some (1)) else (hk (inb y2 (gL σ 5 3)) <| hk (hsi ((gC σ 5 3 y2))) <| hk (inb y1 (gL σ 5 3)) <| hk (hsi ((gC σ 5 3 y1))) <| if (sLen ((gC σ 5 3 y2))) ≤ (sLen ((gC σ 5 3 y1))) then (some (0)) else (some (1)))) fun r5 => Option.bind (α := Int32) (if r5 = 0 then (some (y1)) else (hk (inb y2 (gL σ 5 3)) <| Option.bind (fm_X5_isHere n ((gC σ 5 3 y2)) σ) fun r22 => if r22 = 0 then (some (y1)) else (some (y2)))) fun r17 => lp_X5_mark_4 n m r17 ((y2 + 1)) σ)
/-- HomeCompiler$Scanner.mark()V -/
def fm_X5_mark (n : Nat)  (σ : hc_St) : Option hc_St := Option.bind (lp_X5_mark_4 n n ((-1)) 0 σ) fun r28 => if r28 = (-1) then (Option.bind (fm_X5_look 0 σ) fun r35 => hl (α := Int32) ((if r35 = 40 then 1 else (if r35 = 41 then 1 else (if r35 = 123 then 1 else (if r35 = 125 then 1 else (if r35 = 91 then 1 else (if r35 = 93 then 1 else (if r35 = 44 then 1 else (if r35 = 59 then 1 else (if r35 = 58 then 1 else (if r35 = 63 then 1 else 0))))))))))) fun v41 => hl (α := Int32) ((if r35 = 61 then 1 else (if r35 = 124 then 1 else (if r35 = 94 then 1 else (if r35 = 38 then 1 else (if r35 = 60 then 1 else (if r35 = 62 then 1 else (if r35 = 43 then 1 else (if r35 = 45 then 1 else (if r35 = 42 then 1 else (if r35 = 47 then 1 else (if r35 = 37 then 1 else (if r35 = 33 then 1 else (if r35 = 126 then 1 else 0)))))))))))))) fun v44 => hl (α := Int32) ((if v41 = 0 then (if v44 = 0 then 4 else r35) else r35)) fun v47 => hl (pI σ 5 6 v47) fun σ48 => hl (pI σ48 5 5 ((((gI σ48 5 5)) + 1))) fun σ49 => some σ49) else (hl (pI σ 5 6 ((128 + r28))) fun σ81 => hk (inb r28 (gL σ81 5 3)) <| hk (hsi ((gC σ81 5 3 r28))) <| hl (pI σ81 5 5 ((((gI σ81 5 5)) + ((sLen ((gC σ81 5 3 r28))))))) fun σ84 => some σ84)
set_option maxRecDepth 20000 in
set_option maxHeartbeats 4000000 in
theorem ll_X5_mark_4 {l : Launch} {E : hc_E} {A : Nat → Prop} {am : Nat → Nat → Nat} {d : Nat} {X : hc_X} (n : Nat) (hD : 10 ≤ d) (hem : X.2.2.2.2.2.2.2.2.2.1.exceptionTable.isEmpty = true) {oc : hc_Oc} {σe : hc_St} (hC : hc_C hc_V0 E cX5_mark 5 RX5 none d oc σe (l, A, am, []) X) : ∀ (m : Nat) (σ : hc_St) (y1 : Int32) (y2 : Int32) (rl : Int32) (am1 : Nat → Nat → Nat), lp_X5_mark_4 n m y1 y2 σ = some rl → (hc_At hc_V0 E 5 X 74 [(0, .ref (E.2.1 5)), (1, .int rl)] [] σ am1 []) → hc_At hc_V0 E 5 X 4 [(0, .ref (E.2.1 5)), (1, .int y1), (2, .int y2)] [] σ am1 [] := by
  have hd1 : 1 ≤ d := by omega
  have hd8 : 9 ≤ d := by omega
  intro m
  induction m with
  | zero =>
    intro σ y1 y2 rl am1 h
    cases h
  | succ m ih =>
    intro σ y1 y2 rl am1 h JX
    rw [lp_X5_mark_4] at h
    refine hr_iload_n hC dX5_mark_4 rfl ?_
    refine hr_aload_n hC dX5_mark_5 rfl ?_
    refine hr_gA hC F5_3 rfl dX5_mark_6 q488 ?_
    refine hs_alen4 hC A5_3 dX5_mark_9 ?_
    refine hr_icmp_ge (x := _) hC 74 dX5_mark_10 (by decide) (fun c2 => ?_) (fun c2 => ?_)
    · rw [if_pos c2] at h
      obtain rfl := Option.some.inj h
      exact hr_sub _ rfl (JX)
    · rw [if_neg c2] at h
      refine hr_iload_n hC dX5_mark_13 rfl ?_
      refine hr_iconst (v := (-1)) hC dX5_mark_14 rfl ?_
      obtain ⟨r5, e6, h⟩ := hx_bind h
      have J7 : hc_At hc_V0 E 5 X 44 [(0, .ref (E.2.1 5)), (1, .int y1), (2, .int y2)] [.int r5] σ am1 [] := by
        refine hr_istore_n hC dX5_mark_44 (by decide) ?_
        refine hr_iload_n hC dX5_mark_45 rfl ?_
        obtain ⟨r17, e18, h⟩ := hx_bind h
        have J19 : hc_At hc_V0 E 5 X 67 [(0, .ref (E.2.1 5)), (2, .int y2)] [.int r17] σ am1 [] := by
          refine hr_istore_n hC dX5_mark_67 (by decide) ?_
          refine hr_iinc (v := y2 + 1) hC dX5_mark_68 rfl rfl (by decide) ?_
          refine hr_goto hC 4 dX5_mark_71 (by decide) ?_
          exact hr_sub _ rfl (ih _ _ _ _ am1 h JX)
        clear h
        have h := e18
        refine hr_if_eq (x := _) hC 66 dX5_mark_46 (by decide) (fun c16 => ?_) (fun c16 => ?_)
        · rw [if_pos c16] at h
          refine hr_iload_n hC dX5_mark_66 rfl ?_
          obtain rfl := Option.some.inj h
          exact hr_sub _ rfl (J19)
        · rw [if_neg c16] at h
          refine hr_aload_n hC dX5_mark_49 rfl ?_
          refine hr_aload_n hC dX5_mark_50 rfl ?_
          refine hr_gA hC F5_3 rfl dX5_mark_51 q488 ?_
          refine hr_iload_n hC dX5_mark_54 rfl ?_
          obtain ⟨c21, h⟩ := hk_ok h
          refine hs_sald hC A5_3 c21 dX5_mark_55 ?_
          obtain ⟨r22, e23, h⟩ := hx_bind h
          refine hs_callV0 hC 5 [_] _ dX5_mark_56 q1216 q1218 qs9 q319 q1219 np_X5 rfl OB_5 pd_X5_isHere (Nat.le_of_ble_eq_true rfl) hd1 (okX5_isHere l E A (d - 1) n (by omega)  e23 am1) rfl ?_
          refine hr_if_eq (x := _) hC 66 dX5_mark_59 (by decide) (fun c27 => ?_) (fun c27 => ?_)
          · rw [if_pos c27] at h
            refine hr_iload_n hC dX5_mark_66 rfl ?_
            obtain rfl := Option.some.inj h
            exact hr_sub _ rfl (J19)
          · rw [if_neg c27] at h
            refine hr_iload_n hC dX5_mark_62 rfl ?_
            refine hr_goto hC 67 dX5_mark_63 (by decide) ?_
            obtain rfl := Option.some.inj h
            exact hr_sub _ rfl (J19)
      clear h
      have h := e6
      refine hr_icmp_eq (x := _) hC 39 dX5_mark_15 (by decide) (fun c4 => ?_) (fun c4 => ?_)
      · rw [if_pos c4] at h
        refine hr_iconst (v := 1) hC dX5_mark_39 rfl ?_
        refine hr_goto hC 44 dX5_mark_40 (by decide) ?_
        obtain rfl := Option.some.inj h
        exact hr_sub _ rfl (J7)
      · rw [if_neg c4] at h
        refine hr_aload_n hC dX5_mark_18 rfl ?_
        refine hr_gA hC F5_3 rfl dX5_mark_19 q488 ?_
        refine hr_iload_n hC dX5_mark_22 rfl ?_
        obtain ⟨c9, h⟩ := hk_ok h
        refine hs_sald hC A5_3 c9 dX5_mark_23 ?_
        obtain ⟨c10, h⟩ := hk_ok h
        refine hr_slen hC c10 dX5_mark_24 q1215 hd8 (Nat.le_of_ble_eq_true rfl) ?_
        refine hr_aload_n hC dX5_mark_27 rfl ?_
        refine hr_gA hC F5_3 rfl dX5_mark_28 q488 ?_
        refine hr_iload_n hC dX5_mark_31 rfl ?_
        obtain ⟨c11, h⟩ := hk_ok h
        refine hs_sald hC A5_3 c11 dX5_mark_32 ?_
        obtain ⟨c12, h⟩ := hk_ok h
        refine hr_slen hC c12 dX5_mark_33 q1215 hd8 (Nat.le_of_ble_eq_true rfl) ?_
        refine hr_icmp_le (x := _) hC 43 dX5_mark_36 (by decide) (fun c14 => ?_) (fun c14 => ?_)
        · rw [if_pos c14] at h
          refine hr_iconst (v := 0) hC dX5_mark_43 rfl ?_
          obtain rfl := Option.some.inj h
          exact hr_sub _ rfl (J7)
        · rw [if_neg c14] at h
          refine hr_iconst (v := 1) hC dX5_mark_39 rfl ?_
          refine hr_goto hC 44 dX5_mark_40 (by decide) ?_
          obtain rfl := Option.some.inj h
          exact hr_sub _ rfl (J7)
set_option maxRecDepth 20000 in
set_option maxHeartbeats 4000000 in
theorem okX5_mark (l : Launch) (E : hc_E) (A : Nat → Prop) (d : Nat) (n : Nat) (hD : 10 ≤ d)  {σ : hc_St} {r : hc_St} (h : fm_X5_mark n  σ = some r) (am : Nat → Nat → Nat) : hc_M l hc_V0 yX5_mark (ws_ yX5_mark cX5_mark 5 none) d E A [.ref (E.2.1 5)] am [] σ (.inl none) r := by
  have hd1 : 1 ≤ d := by omega
  have hd8 : 9 ≤ d := by omega
  refine hc_enter2 (own := RX5) [(0, .ref (E.2.1 5))] pl_X5 rfl hc_V0_st hc_G0_nd rfl (Nat.le_of_ble_eq_true rfl) (fun X hC hem => ?_)
  unfold fm_X5_mark at h
  refine hr_iconst (v := (-1)) hC dX5_mark_0 rfl ?_
  refine hr_istore_n hC dX5_mark_1 (by decide) ?_
  refine hr_iconst (v := 0) hC dX5_mark_2 rfl ?_
  refine hr_istore_n hC dX5_mark_3 (by decide) ?_
  obtain ⟨r28, e29, h⟩ := hx_bind h
  refine hr_sub _ rfl (ll_X5_mark_4 n hD hem hC n _ _ _ _ am e29 ?_)
  refine hr_iload_n hC dX5_mark_74 rfl ?_
  refine hr_iconst (v := (-1)) hC dX5_mark_75 rfl ?_
  refine hr_icmp_eq (x := _) hC 107 dX5_mark_76 (by decide) (fun c34 => ?_) (fun c34 => ?_)
  · rw [if_pos c34] at h
    refine hr_aload_n hC dX5_mark_107 rfl ?_
    refine hr_iconst (v := 0) hC dX5_mark_108 rfl ?_
    obtain ⟨r35, e36, h⟩ := hx_bind h
    refine hs_callV0 hC 5 [_] _ dX5_mark_109 q1083 q1085 qs1 q319 q1086 np_X5 rfl OB_5 pd_X5_look (Nat.le_of_ble_eq_true rfl) hd1 (okX5_look l E A (d - 1)  (by omega)  e36 am) rfl ?_
    refine hr_istore_n hC dX5_mark_112 (by decide) ?_
    refine hr_iload_n hC dX5_mark_113 rfl ?_
    refine hr_bipush (v := 40) hC dX5_mark_114 rfl ?_
    obtain ⟨v41, hv41, h⟩ := hl_ok h
    have J69 : ∀ w70 : Int32, (if r35 = 40 then 1 else (if r35 = 41 then 1 else (if r35 = 123 then 1 else (if r35 = 125 then 1 else (if r35 = 91 then 1 else (if r35 = 93 then 1 else (if r35 = 44 then 1 else (if r35 = 59 then 1 else (if r35 = 58 then 1 else (if r35 = 63 then 1 else 0)))))))))) = w70 → hc_At hc_V0 E 5 X 178 [(0, .ref (E.2.1 5)), (2, .int r35)] [.int w70] σ am [] := by
      intro w70 hw70
      obtain rfl := hv41.trans hw70
      refine hr_istore_n hC dX5_mark_178 (by decide) ?_
      refine hr_iload_n hC dX5_mark_179 rfl ?_
      refine hr_bipush (v := 61) hC dX5_mark_180 rfl ?_
      obtain ⟨v44, hv44, h⟩ := hl_ok h
      have J54 : ∀ w55 : Int32, (if r35 = 61 then 1 else (if r35 = 124 then 1 else (if r35 = 94 then 1 else (if r35 = 38 then 1 else (if r35 = 60 then 1 else (if r35 = 62 then 1 else (if r35 = 43 then 1 else (if r35 = 45 then 1 else (if r35 = 42 then 1 else (if r35 = 47 then 1 else (if r35 = 37 then 1 else (if r35 = 33 then 1 else (if r35 = 126 then 1 else 0))))))))))))) = w55 → hc_At hc_V0 E 5 X 262 [(0, .ref (E.2.1 5)), (2, .int r35), (3, .int v41)] [.int w55] σ am [] := by
        intro w55 hw55
        obtain rfl := hv44.trans hw55
        refine hr_istore hC dX5_mark_262 (by decide) ?_
        refine hr_aload_n hC dX5_mark_264 rfl ?_
        refine hr_iload_n hC dX5_mark_265 rfl ?_
        obtain ⟨v47, hv47, h⟩ := hl_ok h
        have J50 : ∀ w51 : Int32, (if v41 = 0 then (if v44 = 0 then 4 else r35) else r35) = w51 → hc_At hc_V0 E 5 X 279 [(0, .ref (E.2.1 5))] [.int w51, .ref (E.2.1 5)] σ am [] := by
          intro w51 hw51
          obtain rfl := hv47.trans hw51
          obtain ⟨σ48, hσ48, h⟩ := hl_ok h
          refine hr_pI hC F5_6 PX5_6 dX5_mark_279 q491 ?_
          rw [← hσ48]
          refine hr_aload_n hC dX5_mark_282 rfl ?_
          refine hr_dup hC dX5_mark_283 rfl ?_
          refine hr_gI hC F5_5 dX5_mark_284 q490 ?_
          refine hr_iconst (v := 1) hC dX5_mark_287 rfl ?_
          refine hr_iadd hC dX5_mark_288 ?_
          obtain ⟨σ49, hσ49, h⟩ := hl_ok h
          refine hr_pI hC F5_5 PX5_5 dX5_mark_289 q490 ?_
          rw [← hσ49]
          obtain rfl := Option.some.inj h
          exact hr_vret hC dX5_mark_292
        refine hr_if_ne (x := _) hC 274 dX5_mark_266 (by decide) (fun c52 => ?_) (fun c52 => ?_)
        · refine hr_iload_n hC dX5_mark_274 rfl ?_
          refine hr_goto hC 279 dX5_mark_275 (by decide) ?_
          exact hr_sub _ rfl (J50 _ (by first | (rw [if_neg c52]; done) | (simp only [if_neg c52]; done) | rfl))
        · refine hr_iload hC dX5_mark_269 rfl ?_
          refine hr_if_eq (x := _) hC 278 dX5_mark_271 (by decide) (fun c53 => ?_) (fun c53 => ?_)
          · refine hr_iconst (v := 4) hC dX5_mark_278 rfl ?_
            exact hr_sub _ rfl (J50 _ (by first | (rw [if_pos c52, if_pos c53]; done) | (simp only [if_pos c52, if_pos c53]; done) | rfl))
          · refine hr_iload_n hC dX5_mark_274 rfl ?_
            refine hr_goto hC 279 dX5_mark_275 (by decide) ?_
            exact hr_sub _ rfl (J50 _ (by first | (rw [if_pos c52, if_neg c53]; done) | (simp only [if_pos c52, if_neg c53]; done) | rfl))
      refine hr_icmp_eq (x := _) hC 257 dX5_mark_182 (by decide) (fun c56 => ?_) (fun c56 => ?_)
      · refine hr_iconst (v := 1) hC dX5_mark_257 rfl ?_
        refine hr_goto hC 262 dX5_mark_258 (by decide) ?_
        exact hr_sub _ rfl (J54 _ (by first | (rw [if_pos c56]; done) | (simp only [if_pos c56]; done) | rfl))
      · refine hr_iload_n hC dX5_mark_185 rfl ?_
        refine hr_bipush (v := 124) hC dX5_mark_186 rfl ?_
        refine hr_icmp_eq (x := _) hC 257 dX5_mark_188 (by decide) (fun c57 => ?_) (fun c57 => ?_)
        · refine hr_iconst (v := 1) hC dX5_mark_257 rfl ?_
          refine hr_goto hC 262 dX5_mark_258 (by decide) ?_
          exact hr_sub _ rfl (J54 _ (by first | (rw [if_neg c56, if_pos c57]; done) | (simp only [if_neg c56, if_pos c57]; done) | rfl))
        · refine hr_iload_n hC dX5_mark_191 rfl ?_
          refine hr_bipush (v := 94) hC dX5_mark_192 rfl ?_
          refine hr_icmp_eq (x := _) hC 257 dX5_mark_194 (by decide) (fun c58 => ?_) (fun c58 => ?_)
          · refine hr_iconst (v := 1) hC dX5_mark_257 rfl ?_
            refine hr_goto hC 262 dX5_mark_258 (by decide) ?_
            exact hr_sub _ rfl (J54 _ (by first | (rw [if_neg c56, if_neg c57, if_pos c58]; done) | (simp only [if_neg c56, if_neg c57, if_pos c58]; done) | rfl))
          · refine hr_iload_n hC dX5_mark_197 rfl ?_
            refine hr_bipush (v := 38) hC dX5_mark_198 rfl ?_
            refine hr_icmp_eq (x := _) hC 257 dX5_mark_200 (by decide) (fun c59 => ?_) (fun c59 => ?_)
            · refine hr_iconst (v := 1) hC dX5_mark_257 rfl ?_
              refine hr_goto hC 262 dX5_mark_258 (by decide) ?_
              exact hr_sub _ rfl (J54 _ (by first | (rw [if_neg c56, if_neg c57, if_neg c58, if_pos c59]; done) | (simp only [if_neg c56, if_neg c57, if_neg c58, if_pos c59]; done) | rfl))
            · refine hr_iload_n hC dX5_mark_203 rfl ?_
              refine hr_bipush (v := 60) hC dX5_mark_204 rfl ?_
              refine hr_icmp_eq (x := _) hC 257 dX5_mark_206 (by decide) (fun c60 => ?_) (fun c60 => ?_)
              · refine hr_iconst (v := 1) hC dX5_mark_257 rfl ?_
                refine hr_goto hC 262 dX5_mark_258 (by decide) ?_
                exact hr_sub _ rfl (J54 _ (by first | (rw [if_neg c56, if_neg c57, if_neg c58, if_neg c59, if_pos c60]; done) | (simp only [if_neg c56, if_neg c57, if_neg c58, if_neg c59, if_pos c60]; done) | rfl))
              · refine hr_iload_n hC dX5_mark_209 rfl ?_
                refine hr_bipush (v := 62) hC dX5_mark_210 rfl ?_
                refine hr_icmp_eq (x := _) hC 257 dX5_mark_212 (by decide) (fun c61 => ?_) (fun c61 => ?_)
                · refine hr_iconst (v := 1) hC dX5_mark_257 rfl ?_
                  refine hr_goto hC 262 dX5_mark_258 (by decide) ?_
                  exact hr_sub _ rfl (J54 _ (by first | (rw [if_neg c56, if_neg c57, if_neg c58, if_neg c59, if_neg c60, if_pos c61]; done) | (simp only [if_neg c56, if_neg c57, if_neg c58, if_neg c59, if_neg c60, if_pos c61]; done) | rfl))
                · refine hr_iload_n hC dX5_mark_215 rfl ?_
                  refine hr_bipush (v := 43) hC dX5_mark_216 rfl ?_
                  refine hr_icmp_eq (x := _) hC 257 dX5_mark_218 (by decide) (fun c62 => ?_) (fun c62 => ?_)
                  · refine hr_iconst (v := 1) hC dX5_mark_257 rfl ?_
                    refine hr_goto hC 262 dX5_mark_258 (by decide) ?_
                    exact hr_sub _ rfl (J54 _ (by first | (rw [if_neg c56, if_neg c57, if_neg c58, if_neg c59, if_neg c60, if_neg c61, if_pos c62]; done) | (simp only [if_neg c56, if_neg c57, if_neg c58, if_neg c59, if_neg c60, if_neg c61, if_pos c62]; done) | rfl))
                  · refine hr_iload_n hC dX5_mark_221 rfl ?_
                    refine hr_bipush (v := 45) hC dX5_mark_222 rfl ?_
                    refine hr_icmp_eq (x := _) hC 257 dX5_mark_224 (by decide) (fun c63 => ?_) (fun c63 => ?_)
                    · refine hr_iconst (v := 1) hC dX5_mark_257 rfl ?_
                      refine hr_goto hC 262 dX5_mark_258 (by decide) ?_
                      exact hr_sub _ rfl (J54 _ (by first | (rw [if_neg c56, if_neg c57, if_neg c58, if_neg c59, if_neg c60, if_neg c61, if_neg c62, if_pos c63]; done) | (simp only [if_neg c56, if_neg c57, if_neg c58, if_neg c59, if_neg c60, if_neg c61, if_neg c62, if_pos c63]; done) | rfl))
                    · refine hr_iload_n hC dX5_mark_227 rfl ?_
                      refine hr_bipush (v := 42) hC dX5_mark_228 rfl ?_
                      refine hr_icmp_eq (x := _) hC 257 dX5_mark_230 (by decide) (fun c64 => ?_) (fun c64 => ?_)
                      · refine hr_iconst (v := 1) hC dX5_mark_257 rfl ?_
                        refine hr_goto hC 262 dX5_mark_258 (by decide) ?_
                        exact hr_sub _ rfl (J54 _ (by first | (rw [if_neg c56, if_neg c57, if_neg c58, if_neg c59, if_neg c60, if_neg c61, if_neg c62, if_neg c63, if_pos c64]; done) | (simp only [if_neg c56, if_neg c57, if_neg c58, if_neg c59, if_neg c60, if_neg c61, if_neg c62, if_neg c63, if_pos c64]; done) | rfl))
                      · refine hr_iload_n hC dX5_mark_233 rfl ?_
                        refine hr_bipush (v := 47) hC dX5_mark_234 rfl ?_
                        refine hr_icmp_eq (x := _) hC 257 dX5_mark_236 (by decide) (fun c65 => ?_) (fun c65 => ?_)
                        · refine hr_iconst (v := 1) hC dX5_mark_257 rfl ?_
                          refine hr_goto hC 262 dX5_mark_258 (by decide) ?_
                          exact hr_sub _ rfl (J54 _ (by first | (rw [if_neg c56, if_neg c57, if_neg c58, if_neg c59, if_neg c60, if_neg c61, if_neg c62, if_neg c63, if_neg c64, if_pos c65]; done) | (simp only [if_neg c56, if_neg c57, if_neg c58, if_neg c59, if_neg c60, if_neg c61, if_neg c62, if_neg c63, if_neg c64, if_pos c65]; done) | rfl))
                        · refine hr_iload_n hC dX5_mark_239 rfl ?_
                          refine hr_bipush (v := 37) hC dX5_mark_240 rfl ?_
                          refine hr_icmp_eq (x := _) hC 257 dX5_mark_242 (by decide) (fun c66 => ?_) (fun c66 => ?_)
                          · refine hr_iconst (v := 1) hC dX5_mark_257 rfl ?_
                            refine hr_goto hC 262 dX5_mark_258 (by decide) ?_
                            exact hr_sub _ rfl (J54 _ (by first | (rw [if_neg c56, if_neg c57, if_neg c58, if_neg c59, if_neg c60, if_neg c61, if_neg c62, if_neg c63, if_neg c64, if_neg c65, if_pos c66]; done) | (simp only [if_neg c56, if_neg c57, if_neg c58, if_neg c59, if_neg c60, if_neg c61, if_neg c62, if_neg c63, if_neg c64, if_neg c65, if_pos c66]; done) | rfl))
                          · refine hr_iload_n hC dX5_mark_245 rfl ?_
                            refine hr_bipush (v := 33) hC dX5_mark_246 rfl ?_
                            refine hr_icmp_eq (x := _) hC 257 dX5_mark_248 (by decide) (fun c67 => ?_) (fun c67 => ?_)
                            · refine hr_iconst (v := 1) hC dX5_mark_257 rfl ?_
                              refine hr_goto hC 262 dX5_mark_258 (by decide) ?_
                              exact hr_sub _ rfl (J54 _ (by first | (rw [if_neg c56, if_neg c57, if_neg c58, if_neg c59, if_neg c60, if_neg c61, if_neg c62, if_neg c63, if_neg c64, if_neg c65, if_neg c66, if_pos c67]; done) | (simp only [if_neg c56, if_neg c57, if_neg c58, if_neg c59, if_neg c60, if_neg c61, if_neg c62, if_neg c63, if_neg c64, if_neg c65, if_neg c66, if_pos c67]; done) | rfl))
                            · refine hr_iload_n hC dX5_mark_251 rfl ?_
                              refine hr_bipush (v := 126) hC dX5_mark_252 rfl ?_
                              refine hr_icmp_ne (x := _) hC 261 dX5_mark_254 (by decide) (fun c68 => ?_) (fun c68 => ?_)
                              · refine hr_iconst (v := 0) hC dX5_mark_261 rfl ?_
                                exact hr_sub _ rfl (J54 _ (by first | (rw [if_neg c56, if_neg c57, if_neg c58, if_neg c59, if_neg c60, if_neg c61, if_neg c62, if_neg c63, if_neg c64, if_neg c65, if_neg c66, if_neg c67, if_neg c68]; done) | (simp only [if_neg c56, if_neg c57, if_neg c58, if_neg c59, if_neg c60, if_neg c61, if_neg c62, if_neg c63, if_neg c64, if_neg c65, if_neg c66, if_neg c67, if_neg c68]; done) | rfl))
                              · refine hr_iconst (v := 1) hC dX5_mark_257 rfl ?_
                                refine hr_goto hC 262 dX5_mark_258 (by decide) ?_
                                exact hr_sub _ rfl (J54 _ (by first | (rw [if_neg c56, if_neg c57, if_neg c58, if_neg c59, if_neg c60, if_neg c61, if_neg c62, if_neg c63, if_neg c64, if_neg c65, if_neg c66, if_neg c67, if_pos c68]; done) | (simp only [if_neg c56, if_neg c57, if_neg c58, if_neg c59, if_neg c60, if_neg c61, if_neg c62, if_neg c63, if_neg c64, if_neg c65, if_neg c66, if_neg c67, if_pos c68]; done) | rfl))
    refine hr_icmp_eq (x := _) hC 173 dX5_mark_116 (by decide) (fun c71 => ?_) (fun c71 => ?_)
    · refine hr_iconst (v := 1) hC dX5_mark_173 rfl ?_
      refine hr_goto hC 178 dX5_mark_174 (by decide) ?_
      exact hr_sub _ rfl (J69 _ (by first | (rw [if_pos c71]; done) | (simp only [if_pos c71]; done) | rfl))
    · refine hr_iload_n hC dX5_mark_119 rfl ?_
      refine hr_bipush (v := 41) hC dX5_mark_120 rfl ?_
      refine hr_icmp_eq (x := _) hC 173 dX5_mark_122 (by decide) (fun c72 => ?_) (fun c72 => ?_)
      · refine hr_iconst (v := 1) hC dX5_mark_173 rfl ?_
        refine hr_goto hC 178 dX5_mark_174 (by decide) ?_
        exact hr_sub _ rfl (J69 _ (by first | (rw [if_neg c71, if_pos c72]; done) | (simp only [if_neg c71, if_pos c72]; done) | rfl))
      · refine hr_iload_n hC dX5_mark_125 rfl ?_
        refine hr_bipush (v := 123) hC dX5_mark_126 rfl ?_
        refine hr_icmp_eq (x := _) hC 173 dX5_mark_128 (by decide) (fun c73 => ?_) (fun c73 => ?_)
        · refine hr_iconst (v := 1) hC dX5_mark_173 rfl ?_
          refine hr_goto hC 178 dX5_mark_174 (by decide) ?_
          exact hr_sub _ rfl (J69 _ (by first | (rw [if_neg c71, if_neg c72, if_pos c73]; done) | (simp only [if_neg c71, if_neg c72, if_pos c73]; done) | rfl))
        · refine hr_iload_n hC dX5_mark_131 rfl ?_
          refine hr_bipush (v := 125) hC dX5_mark_132 rfl ?_
          refine hr_icmp_eq (x := _) hC 173 dX5_mark_134 (by decide) (fun c74 => ?_) (fun c74 => ?_)
          · refine hr_iconst (v := 1) hC dX5_mark_173 rfl ?_
            refine hr_goto hC 178 dX5_mark_174 (by decide) ?_
            exact hr_sub _ rfl (J69 _ (by first | (rw [if_neg c71, if_neg c72, if_neg c73, if_pos c74]; done) | (simp only [if_neg c71, if_neg c72, if_neg c73, if_pos c74]; done) | rfl))
          · refine hr_iload_n hC dX5_mark_137 rfl ?_
            refine hr_bipush (v := 91) hC dX5_mark_138 rfl ?_
            refine hr_icmp_eq (x := _) hC 173 dX5_mark_140 (by decide) (fun c75 => ?_) (fun c75 => ?_)
            · refine hr_iconst (v := 1) hC dX5_mark_173 rfl ?_
              refine hr_goto hC 178 dX5_mark_174 (by decide) ?_
              exact hr_sub _ rfl (J69 _ (by first | (rw [if_neg c71, if_neg c72, if_neg c73, if_neg c74, if_pos c75]; done) | (simp only [if_neg c71, if_neg c72, if_neg c73, if_neg c74, if_pos c75]; done) | rfl))
            · refine hr_iload_n hC dX5_mark_143 rfl ?_
              refine hr_bipush (v := 93) hC dX5_mark_144 rfl ?_
              refine hr_icmp_eq (x := _) hC 173 dX5_mark_146 (by decide) (fun c76 => ?_) (fun c76 => ?_)
              · refine hr_iconst (v := 1) hC dX5_mark_173 rfl ?_
                refine hr_goto hC 178 dX5_mark_174 (by decide) ?_
                exact hr_sub _ rfl (J69 _ (by first | (rw [if_neg c71, if_neg c72, if_neg c73, if_neg c74, if_neg c75, if_pos c76]; done) | (simp only [if_neg c71, if_neg c72, if_neg c73, if_neg c74, if_neg c75, if_pos c76]; done) | rfl))
              · refine hr_iload_n hC dX5_mark_149 rfl ?_
                refine hr_bipush (v := 44) hC dX5_mark_150 rfl ?_
                refine hr_icmp_eq (x := _) hC 173 dX5_mark_152 (by decide) (fun c77 => ?_) (fun c77 => ?_)
                · refine hr_iconst (v := 1) hC dX5_mark_173 rfl ?_
                  refine hr_goto hC 178 dX5_mark_174 (by decide) ?_
                  exact hr_sub _ rfl (J69 _ (by first | (rw [if_neg c71, if_neg c72, if_neg c73, if_neg c74, if_neg c75, if_neg c76, if_pos c77]; done) | (simp only [if_neg c71, if_neg c72, if_neg c73, if_neg c74, if_neg c75, if_neg c76, if_pos c77]; done) | rfl))
                · refine hr_iload_n hC dX5_mark_155 rfl ?_
                  refine hr_bipush (v := 59) hC dX5_mark_156 rfl ?_
                  refine hr_icmp_eq (x := _) hC 173 dX5_mark_158 (by decide) (fun c78 => ?_) (fun c78 => ?_)
                  · refine hr_iconst (v := 1) hC dX5_mark_173 rfl ?_
                    refine hr_goto hC 178 dX5_mark_174 (by decide) ?_
                    exact hr_sub _ rfl (J69 _ (by first | (rw [if_neg c71, if_neg c72, if_neg c73, if_neg c74, if_neg c75, if_neg c76, if_neg c77, if_pos c78]; done) | (simp only [if_neg c71, if_neg c72, if_neg c73, if_neg c74, if_neg c75, if_neg c76, if_neg c77, if_pos c78]; done) | rfl))
                  · refine hr_iload_n hC dX5_mark_161 rfl ?_
                    refine hr_bipush (v := 58) hC dX5_mark_162 rfl ?_
                    refine hr_icmp_eq (x := _) hC 173 dX5_mark_164 (by decide) (fun c79 => ?_) (fun c79 => ?_)
                    · refine hr_iconst (v := 1) hC dX5_mark_173 rfl ?_
                      refine hr_goto hC 178 dX5_mark_174 (by decide) ?_
                      exact hr_sub _ rfl (J69 _ (by first | (rw [if_neg c71, if_neg c72, if_neg c73, if_neg c74, if_neg c75, if_neg c76, if_neg c77, if_neg c78, if_pos c79]; done) | (simp only [if_neg c71, if_neg c72, if_neg c73, if_neg c74, if_neg c75, if_neg c76, if_neg c77, if_neg c78, if_pos c79]; done) | rfl))
                    · refine hr_iload_n hC dX5_mark_167 rfl ?_
                      refine hr_bipush (v := 63) hC dX5_mark_168 rfl ?_
                      refine hr_icmp_ne (x := _) hC 177 dX5_mark_170 (by decide) (fun c80 => ?_) (fun c80 => ?_)
                      · refine hr_iconst (v := 0) hC dX5_mark_177 rfl ?_
                        exact hr_sub _ rfl (J69 _ (by first | (rw [if_neg c71, if_neg c72, if_neg c73, if_neg c74, if_neg c75, if_neg c76, if_neg c77, if_neg c78, if_neg c79, if_neg c80]; done) | (simp only [if_neg c71, if_neg c72, if_neg c73, if_neg c74, if_neg c75, if_neg c76, if_neg c77, if_neg c78, if_neg c79, if_neg c80]; done) | rfl))
                      · refine hr_iconst (v := 1) hC dX5_mark_173 rfl ?_
                        refine hr_goto hC 178 dX5_mark_174 (by decide) ?_
                        exact hr_sub _ rfl (J69 _ (by first | (rw [if_neg c71, if_neg c72, if_neg c73, if_neg c74, if_neg c75, if_neg c76, if_neg c77, if_neg c78, if_neg c79, if_pos c80]; done) | (simp only [if_neg c71, if_neg c72, if_neg c73, if_neg c74, if_neg c75, if_neg c76, if_neg c77, if_neg c78, if_neg c79, if_pos c80]; done) | rfl))
  · rw [if_neg c34] at h
    refine hr_aload_n hC dX5_mark_79 rfl ?_
    refine hr_sipush (v := 128) hC dX5_mark_80 rfl ?_
    refine hr_iload_n hC dX5_mark_83 rfl ?_
    refine hr_iadd hC dX5_mark_84 ?_
    obtain ⟨σ81, hσ81, h⟩ := hl_ok h
    refine hr_pI hC F5_6 PX5_6 dX5_mark_85 q491 ?_
    rw [← hσ81]
    refine hr_aload_n hC dX5_mark_88 rfl ?_
    refine hr_dup hC dX5_mark_89 rfl ?_
    refine hr_gI hC F5_5 dX5_mark_90 q490 ?_
    refine hr_aload_n hC dX5_mark_93 rfl ?_
    refine hr_gA hC F5_3 rfl dX5_mark_94 q488 ?_
    refine hr_iload_n hC dX5_mark_97 rfl ?_
    obtain ⟨c82, h⟩ := hk_ok h
    refine hs_sald hC A5_3 c82 dX5_mark_98 ?_
    obtain ⟨c83, h⟩ := hk_ok h
    refine hr_slen hC c83 dX5_mark_99 q1215 hd8 (Nat.le_of_ble_eq_true rfl) ?_
    refine hr_iadd hC dX5_mark_102 ?_
    obtain ⟨σ84, hσ84, h⟩ := hl_ok h
    refine hr_pI hC F5_5 PX5_5 dX5_mark_103 q490 ?_
    rw [← hσ84]
    obtain rfl := Option.some.inj h
    exact hr_vret hC dX5_mark_106
/-- HomeCompiler$Scanner.next()V -/
def fm_X5_next (n : Nat)  (σ : hc_St) : Option hc_St := Option.bind (fm_X5_skip n σ) fun r1 => Option.bind (fm_X5_look 0 r1.2) fun r5 => Option.bind (α := hc_St) (if r1.1 = 0 then (hk (decide (gI r1.2 5 4 ≠ 0)) <| Option.bind (fm_X4_size 22 r1.2) fun r16 => if (gI r1.2 5 5) = r16 then (hl (pI r1.2 5 6 0) fun σ58 => some (σ58)) else (Option.bind (fm_X5_isLetter r5 r1.2) fun r22 => if r22 = 0 then (Option.bind (fm_X5_isDigit r5 r1.2) fun r28 => if r28 = 0 then (if r5 = 39 then (Option.bind (fm_X5_character  r1.2) fun r46 => some (r46)) else (if r5 = 34 then (Option.bind (fm_X5_quoted n r1.2) fun r42 => some (r42)) else (Option.bind (fm_X5_mark n r1.2) fun r38 => some (r38)))) else (Option.bind (fm_X5_digits n r1.2) fun r50 => some (r50))) else (Option.bind (fm_X5_word n r1.2) fun r54 => some (r54)))) else (hl (pI r1.2 5 6 4) fun σ59 => some (σ59))) fun r11 => some r11
set_option maxRecDepth 20000 in
set_option maxHeartbeats 4000000 in
theorem okX5_next (l : Launch) (E : hc_E) (A : Nat → Prop) (d : Nat) (n : Nat) (hD : 12 ≤ d)  {σ : hc_St} {r : hc_St} (h : fm_X5_next n  σ = some r) (am : Nat → Nat → Nat) : hc_M l hc_V0 yX5_next (ws_ yX5_next cX5_next 3 none) d E A [.ref (E.2.1 5)] am [2, 3, 4, 12, 22] σ (.inl none) r := by
  have hd1 : 1 ≤ d := by omega
  have hd8 : 9 ≤ d := by omega
  refine hc_enter2 (own := RX5) [(0, .ref (E.2.1 5))] pl_X5 rfl hc_V0_st hc_G0_nd rfl (Nat.le_of_ble_eq_true rfl) (fun X hC hem => ?_)
  unfold fm_X5_next at h
  refine hr_aload_n hC dX5_next_0 rfl ?_
  obtain ⟨r1, e2, h⟩ := hx_bind h
  refine hs_callV0 hC 5 [] _ dX5_next_1 q1079 q1081 qs0 q319 q1082 np_X5 rfl OB_5 pd_X5_skip (Nat.le_of_ble_eq_true rfl) hd1 (okX5_skip l E A (d - 1) n (by omega)  e2 am) rfl ?_
  refine hr_istore_n hC dX5_next_4 (by decide) ?_
  refine hr_aload_n hC dX5_next_5 rfl ?_
  refine hr_iconst (v := 0) hC dX5_next_6 rfl ?_
  obtain ⟨r5, e6, h⟩ := hx_bind h
  refine hs_callV0 hC 5 [_] _ dX5_next_7 q1083 q1085 qs1 q319 q1086 np_X5 rfl OB_5 pd_X5_look (Nat.le_of_ble_eq_true rfl) hd1 (okX5_look l E A (d - 1)  (by omega)  e6 am) rfl ?_
  refine hr_istore_n hC dX5_next_10 (by decide) ?_
  refine hr_iload_n hC dX5_next_11 rfl ?_
  obtain ⟨r11, e12, h⟩ := hx_bind h
  have J13 : ∀ am60, hc_At hc_V0 E 3 X 103 [] [] r11 am60 [] := by
    intro am60
    obtain rfl := Option.some.inj h
    exact hr_vret hC dX5_next_103
  clear h
  have h := e12
  refine hr_if_eq (x := _) hC 23 dX5_next_12 (by decide) (fun c10 => ?_) (fun c10 => ?_)
  · rw [if_pos c10] at h
    refine hr_aload_n hC dX5_next_23 rfl ?_
    refine hr_gI hC F5_5 dX5_next_24 q490 ?_
    refine hr_aload_n hC dX5_next_27 rfl ?_
    obtain ⟨c15, h⟩ := hk_ok h
    refine hr_g6 22 hC F5_4 rfl (of_decide_eq_true c15) dX5_next_28 q489 ?_
    obtain ⟨r16, e17, h⟩ := hx_bind h
    refine hs_callV0 hC 22 [] _ dX5_next_31 q1087 q1068 q1069 q318 q1070 np_X4 rfl OB_22 pd_X4_size (Nat.le_of_ble_eq_true rfl) hd1 (okX4_size l E A (d - 1)  (by omega) (by unfold hc_by; decide) e17 am) rfl ?_
    refine hr_icmp_ne (x := _) hC 45 dX5_next_34 (by decide) (fun c21 => ?_) (fun c21 => ?_)
    · rw [if_neg c21] at h
      refine hr_iload_n hC dX5_next_45 rfl ?_
      obtain ⟨r22, e23, h⟩ := hx_bind h
      refine hs_callS0 hC [_] _ dX5_next_46 q1096 q1097 q319 q1098 np_X5 rfl pd_X5_isLetter (Nat.le_of_ble_eq_true rfl) hd1 (okX5_isLetter l E A (d - 1)  (by omega)  e23 am) rfl ?_
      refine hr_if_eq (x := _) hC 59 dX5_next_49 (by decide) (fun c27 => ?_) (fun c27 => ?_)
      · rw [if_pos c27] at h
        refine hr_iload_n hC dX5_next_59 rfl ?_
        obtain ⟨r28, e29, h⟩ := hx_bind h
        refine hs_callS0 hC [_] _ dX5_next_60 q1103 q1104 q319 q1105 np_X5 rfl pd_X5_isDigit (Nat.le_of_ble_eq_true rfl) hd1 (okX5_isDigit l E A (d - 1)  (by omega)  e29 am) rfl ?_
        refine hr_if_eq (x := _) hC 73 dX5_next_63 (by decide) (fun c33 => ?_) (fun c33 => ?_)
        · rw [if_pos c33] at h
          refine hr_iload_n hC dX5_next_73 rfl ?_
          refine hr_bipush (v := 39) hC dX5_next_74 rfl ?_
          refine hr_icmp_ne (x := _) hC 86 dX5_next_76 (by decide) (fun c35 => ?_) (fun c35 => ?_)
          · rw [if_neg c35] at h
            refine hr_iload_n hC dX5_next_86 rfl ?_
            refine hr_bipush (v := 34) hC dX5_next_87 rfl ?_
            refine hr_icmp_ne (x := _) hC 99 dX5_next_89 (by decide) (fun c37 => ?_) (fun c37 => ?_)
            · rw [if_neg c37] at h
              refine hr_aload_n hC dX5_next_99 rfl ?_
              obtain ⟨r38, e39, h⟩ := hx_bind h
              refine hs_callV0 hC 5 [] _ dX5_next_100 q1211 q1213 qs8 q319 q1214 np_X5 rfl OB_5 pd_X5_mark (Nat.le_of_ble_eq_true rfl) hd1 (okX5_mark l E A (d - 1) n (by omega)  e39 am) rfl ?_
              obtain rfl := Option.some.inj h
              exact hr_sub _ rfl (J13 am)
            · rw [if_pos c37] at h
              refine hr_aload_n hC dX5_next_92 rfl ?_
              obtain ⟨r42, e43, h⟩ := hx_bind h
              refine hs_callV hC 5 [] _ dX5_next_93 q1202 q1204 qs7 q319 q1205 np_X5 rfl OB_5 pd_X5_quoted (Nat.le_of_ble_eq_true rfl) hd1 (okX5_quoted l E A (d - 1) n (by omega)  e43 am) (hc_rb rfl) rfl (fun am44 ha45 => ?_)
              refine hr_goto hC 103 dX5_next_96 (by decide) ?_
              obtain rfl := Option.some.inj h
              exact hr_sub _ rfl (J13 am44)
          · rw [if_pos c35] at h
            refine hr_aload_n hC dX5_next_79 rfl ?_
            obtain ⟨r46, e47, h⟩ := hx_bind h
            refine hs_callV0 hC 5 [] _ dX5_next_80 q1198 q1200 qs6 q319 q1201 np_X5 rfl OB_5 pd_X5_character (Nat.le_of_ble_eq_true rfl) hd1 (okX5_character l E A (d - 1)  (by omega)  e47 am) rfl ?_
            refine hr_goto hC 103 dX5_next_83 (by decide) ?_
            obtain rfl := Option.some.inj h
            exact hr_sub _ rfl (J13 am)
        · rw [if_neg c33] at h
          refine hr_aload_n hC dX5_next_66 rfl ?_
          obtain ⟨r50, e51, h⟩ := hx_bind h
          refine hs_callV0 hC 5 [] _ dX5_next_67 q1191 q1193 qs5 q319 q1194 np_X5 rfl OB_5 pd_X5_digits (Nat.le_of_ble_eq_true rfl) hd1 (okX5_digits l E A (d - 1) n (by omega)  e51 am) rfl ?_
          refine hr_goto hC 103 dX5_next_70 (by decide) ?_
          obtain rfl := Option.some.inj h
          exact hr_sub _ rfl (J13 am)
      · rw [if_neg c27] at h
        refine hr_aload_n hC dX5_next_52 rfl ?_
        obtain ⟨r54, e55, h⟩ := hx_bind h
        refine hs_callV hC 5 [] _ dX5_next_53 q1099 q1101 qs3 q319 q1102 np_X5 rfl OB_5 pd_X5_word (Nat.le_of_ble_eq_true rfl) hd1 (okX5_word l E A (d - 1) n (by omega)  e55 am) (hc_rb rfl) rfl (fun am56 ha57 => ?_)
        refine hr_goto hC 103 dX5_next_56 (by decide) ?_
        obtain rfl := Option.some.inj h
        exact hr_sub _ rfl (J13 am56)
    · rw [if_pos c21] at h
      refine hr_aload_n hC dX5_next_37 rfl ?_
      refine hr_iconst (v := 0) hC dX5_next_38 rfl ?_
      obtain ⟨σ58, hσ58, h⟩ := hl_ok h
      refine hr_pI hC F5_6 PX5_6 dX5_next_39 q491 ?_
      rw [← hσ58]
      refine hr_goto hC 103 dX5_next_42 (by decide) ?_
      obtain rfl := Option.some.inj h
      exact hr_sub _ rfl (J13 am)
  · rw [if_neg c10] at h
    refine hr_aload_n hC dX5_next_15 rfl ?_
    refine hr_iconst (v := 4) hC dX5_next_16 rfl ?_
    obtain ⟨σ59, hσ59, h⟩ := hl_ok h
    refine hr_pI hC F5_6 PX5_6 dX5_next_17 q491 ?_
    rw [← hσ59]
    refine hr_goto hC 103 dX5_next_20 (by decide) ?_
    obtain rfl := Option.some.inj h
    exact hr_sub _ rfl (J13 am)
/-- HomeCompiler$Scanner.begin(LHomeCompiler$Bytes;)V -/
def fm_X5_begin (n : Nat)  (σ : hc_St) : Option hc_St := hl (pI σ 5 4 1) fun σ1 => hl (pI σ1 5 5 0) fun σ2 => Option.bind (fm_X5_next n σ2) fun r3 => some r3
set_option maxRecDepth 20000 in
set_option maxHeartbeats 4000000 in
theorem okX5_begin (l : Launch) (E : hc_E) (A : Nat → Prop) (d : Nat) (n : Nat) (hD : 13 ≤ d)  {σ : hc_St} {r : hc_St} (h : fm_X5_begin n  σ = some r) (am : Nat → Nat → Nat) : hc_M l hc_V0 yX5_begin (ws_ yX5_begin cX5_begin 2 none) d E A [.ref (E.2.1 5), .ref (E.2.1 22)] am [2, 3, 4, 12, 22] σ (.inl none) r := by
  have hd1 : 1 ≤ d := by omega
  have hd8 : 9 ≤ d := by omega
  have hd12 : 12 ≤ d := by omega
  refine hc_enter2 (own := RX5) [(0, .ref (E.2.1 5)), (1, .ref (E.2.1 22))] pl_X5 rfl hc_V0_st hc_G0_nd rfl (Nat.le_of_ble_eq_true rfl) (fun X hC hem => ?_)
  unfold fm_X5_begin at h
  refine hr_aload_n hC dX5_begin_0 rfl ?_
  refine hr_aload_n hC dX5_begin_1 rfl ?_
  obtain ⟨σ1, hσ1, h⟩ := hl_ok h
  refine hr_p6 22 hC F5_4 rfl PX5_4 dX5_begin_2 q489 ?_
  rw [← hσ1]
  refine hr_aload_n hC dX5_begin_5 rfl ?_
  refine hr_iconst (v := 0) hC dX5_begin_6 rfl ?_
  obtain ⟨σ2, hσ2, h⟩ := hl_ok h
  refine hr_pI hC F5_5 PX5_5 dX5_begin_7 q490 ?_
  rw [← hσ2]
  refine hr_aload_n hC dX5_begin_10 rfl ?_
  obtain ⟨r3, e4, h⟩ := hx_bind h
  refine hs_callV hC 5 [] _ dX5_begin_11 q1075 q1076 q1077 q319 q1078 np_X5 rfl OB_5 pd_X5_next (Nat.le_of_ble_eq_true rfl) hd1 (okX5_next l E A (d - 1) n (by omega)  e4 am) (hc_rb rfl) rfl (fun am5 ha6 => ?_)
  obtain rfl := Option.some.inj h
  exact hr_vret hC dX5_begin_14
/-- HomeCompiler$Nodes.grow()V -/
def fm_X6_grow   (σ : hc_St) : Option hc_St := hk (hlo (gL σ 6 0) σ) <| hl (hlg σ 6 0) fun σ2 => hk (hlo (gL σ2 6 1) σ2) <| hl (hlg σ2 6 1) fun σ5 => hk (hlo (gL σ5 6 2) σ5) <| hl (hlg σ5 6 2) fun σ8 => hk (hlo (gL σ8 6 3) σ8) <| hl (hlg σ8 6 3) fun σ11 => hk (hlo (gL σ11 6 4) σ11) <| hl (hlg σ11 6 4) fun σ14 => hk (hlo (gL σ14 6 5) σ14) <| hl (hlg σ14 6 5) fun σ17 => hk (hlo (gL σ17 6 6) σ17) <| hl (hlg σ17 6 6) fun σ20 => hk (hlo (gL σ20 6 7) σ20) <| hl (hlg σ20 6 7) fun σ23 => hk (hlo (gL σ23 6 8) σ23) <| hl (hlg σ23 6 8) fun σ26 => hk (hlo (gL σ26 6 9) σ26) <| hl (hlg σ26 6 9) fun σ29 => some σ29
set_option maxRecDepth 20000 in
set_option maxHeartbeats 4000000 in
theorem okX6_grow (l : Launch) (E : hc_E) (A : Nat → Prop) (d : Nat)  (hD : 5 ≤ d)  {σ : hc_St} {r : hc_St} (h : fm_X6_grow   σ = some r) (am : Nat → Nat → Nat) : hc_M l hc_V0 yX6_grow (ws_ yX6_grow cX6_grow 1 none) d E A [.ref (E.2.1 6)] am [6] σ (.inl none) r := by
  have hd1 : 1 ≤ d := by omega
  refine hc_enter2 (own := RX6) [(0, .ref (E.2.1 6))] pl_X6 rfl hc_V0_st hc_G0_nd rfl (Nat.le_of_ble_eq_true rfl) (fun X hC hem => ?_)
  unfold fm_X6_grow at h
  refine hr_aload_n hC dX6_grow_0 rfl ?_
  refine hr_aload_n hC dX6_grow_1 rfl ?_
  refine hr_gA hC F6_0 rfl dX6_grow_2 q525 ?_
  obtain ⟨c1, h⟩ := hk_ok h
  obtain ⟨σ2, hσ2, h⟩ := hl_ok h
  refine hr_longer (okl_X6 l E A (d - 1) (by omega)) hC F6_0 rfl A6_0 PX6_0 (hc_mm rfl) c1 dX6_grow_5 q1238 dX6_grow_8 q525 pd_X6_longer q1239 q320 q1240 np_X6 (Nat.le_of_ble_eq_true rfl) hd1 (fun q3 => ?_)
  rw [← hσ2]
  refine hr_aload_n hC dX6_grow_11 rfl ?_
  refine hr_aload_n hC dX6_grow_12 rfl ?_
  refine hr_gA hC F6_1 rfl dX6_grow_13 q526 ?_
  obtain ⟨c4, h⟩ := hk_ok h
  obtain ⟨σ5, hσ5, h⟩ := hl_ok h
  refine hr_longer (okl_X6 l E A (d - 1) (by omega)) hC F6_1 rfl A6_1 PX6_1 (hc_mm rfl) c4 dX6_grow_16 q1238 dX6_grow_19 q526 pd_X6_longer q1239 q320 q1240 np_X6 (Nat.le_of_ble_eq_true rfl) hd1 (fun q6 => ?_)
  rw [← hσ5]
  refine hr_aload_n hC dX6_grow_22 rfl ?_
  refine hr_aload_n hC dX6_grow_23 rfl ?_
  refine hr_gA hC F6_2 rfl dX6_grow_24 q527 ?_
  obtain ⟨c7, h⟩ := hk_ok h
  obtain ⟨σ8, hσ8, h⟩ := hl_ok h
  refine hr_longer (okl_X6 l E A (d - 1) (by omega)) hC F6_2 rfl A6_2 PX6_2 (hc_mm rfl) c7 dX6_grow_27 q1238 dX6_grow_30 q527 pd_X6_longer q1239 q320 q1240 np_X6 (Nat.le_of_ble_eq_true rfl) hd1 (fun q9 => ?_)
  rw [← hσ8]
  refine hr_aload_n hC dX6_grow_33 rfl ?_
  refine hr_aload_n hC dX6_grow_34 rfl ?_
  refine hr_gA hC F6_3 rfl dX6_grow_35 q528 ?_
  obtain ⟨c10, h⟩ := hk_ok h
  obtain ⟨σ11, hσ11, h⟩ := hl_ok h
  refine hr_longer (okl_X6 l E A (d - 1) (by omega)) hC F6_3 rfl A6_3 PX6_3 (hc_mm rfl) c10 dX6_grow_38 q1238 dX6_grow_41 q528 pd_X6_longer q1239 q320 q1240 np_X6 (Nat.le_of_ble_eq_true rfl) hd1 (fun q12 => ?_)
  rw [← hσ11]
  refine hr_aload_n hC dX6_grow_44 rfl ?_
  refine hr_aload_n hC dX6_grow_45 rfl ?_
  refine hr_gA hC F6_4 rfl dX6_grow_46 q529 ?_
  obtain ⟨c13, h⟩ := hk_ok h
  obtain ⟨σ14, hσ14, h⟩ := hl_ok h
  refine hr_longer (okl_X6 l E A (d - 1) (by omega)) hC F6_4 rfl A6_4 PX6_4 (hc_mm rfl) c13 dX6_grow_49 q1238 dX6_grow_52 q529 pd_X6_longer q1239 q320 q1240 np_X6 (Nat.le_of_ble_eq_true rfl) hd1 (fun q15 => ?_)
  rw [← hσ14]
  refine hr_aload_n hC dX6_grow_55 rfl ?_
  refine hr_aload_n hC dX6_grow_56 rfl ?_
  refine hr_gA hC F6_5 rfl dX6_grow_57 q530 ?_
  obtain ⟨c16, h⟩ := hk_ok h
  obtain ⟨σ17, hσ17, h⟩ := hl_ok h
  refine hr_longer (okl_X6 l E A (d - 1) (by omega)) hC F6_5 rfl A6_5 PX6_5 (hc_mm rfl) c16 dX6_grow_60 q1238 dX6_grow_63 q530 pd_X6_longer q1239 q320 q1240 np_X6 (Nat.le_of_ble_eq_true rfl) hd1 (fun q18 => ?_)
  rw [← hσ17]
  refine hr_aload_n hC dX6_grow_66 rfl ?_
  refine hr_aload_n hC dX6_grow_67 rfl ?_
  refine hr_gA hC F6_6 rfl dX6_grow_68 q531 ?_
  obtain ⟨c19, h⟩ := hk_ok h
  obtain ⟨σ20, hσ20, h⟩ := hl_ok h
  refine hr_longer (okl_X6 l E A (d - 1) (by omega)) hC F6_6 rfl A6_6 PX6_6 (hc_mm rfl) c19 dX6_grow_71 q1238 dX6_grow_74 q531 pd_X6_longer q1239 q320 q1240 np_X6 (Nat.le_of_ble_eq_true rfl) hd1 (fun q21 => ?_)
  rw [← hσ20]
  refine hr_aload_n hC dX6_grow_77 rfl ?_
  refine hr_aload_n hC dX6_grow_78 rfl ?_
  refine hr_gA hC F6_7 rfl dX6_grow_79 q532 ?_
  obtain ⟨c22, h⟩ := hk_ok h
  obtain ⟨σ23, hσ23, h⟩ := hl_ok h
  refine hr_longer (okl_X6 l E A (d - 1) (by omega)) hC F6_7 rfl A6_7 PX6_7 (hc_mm rfl) c22 dX6_grow_82 q1238 dX6_grow_85 q532 pd_X6_longer q1239 q320 q1240 np_X6 (Nat.le_of_ble_eq_true rfl) hd1 (fun q24 => ?_)
  rw [← hσ23]
  refine hr_aload_n hC dX6_grow_88 rfl ?_
  refine hr_aload_n hC dX6_grow_89 rfl ?_
  refine hr_gA hC F6_8 rfl dX6_grow_90 q533 ?_
  obtain ⟨c25, h⟩ := hk_ok h
  obtain ⟨σ26, hσ26, h⟩ := hl_ok h
  refine hr_longer (okl_X6 l E A (d - 1) (by omega)) hC F6_8 rfl A6_8 PX6_8 (hc_mm rfl) c25 dX6_grow_93 q1238 dX6_grow_96 q533 pd_X6_longer q1239 q320 q1240 np_X6 (Nat.le_of_ble_eq_true rfl) hd1 (fun q27 => ?_)
  rw [← hσ26]
  refine hr_aload_n hC dX6_grow_99 rfl ?_
  refine hr_aload_n hC dX6_grow_100 rfl ?_
  refine hr_gA hC F6_9 rfl dX6_grow_101 q534 ?_
  obtain ⟨c28, h⟩ := hk_ok h
  obtain ⟨σ29, hσ29, h⟩ := hl_ok h
  refine hr_longer (okl_X6 l E A (d - 1) (by omega)) hC F6_9 rfl A6_9 PX6_9 (hc_mm rfl) c28 dX6_grow_104 q1238 dX6_grow_107 q534 pd_X6_longer q1239 q320 q1240 np_X6 (Nat.le_of_ble_eq_true rfl) hd1 (fun q30 => ?_)
  rw [← hσ29]
  obtain rfl := Option.some.inj h
  exact hr_vret hC dX6_grow_110
/-- HomeCompiler$Nodes.make(IIII)I -/
def fm_X6_make  (x1 : Int32) (x2 : Int32) (x3 : Int32) (x4 : Int32) (σ : hc_St) : Option (Int32 × hc_St) := Option.bind (α := hc_St) (if (gI σ 6 10) = (nI (gL σ 6 0)) then (Option.bind (fm_X6_grow  σ) fun r7 => some (r7)) else (some (σ))) fun r3 => hk (inb ((gI r3 6 10)) (gL r3 6 0)) <| hl (pC r3 6 0 ((gI r3 6 10)) x1) fun σ13 => hk (inb ((gI σ13 6 10)) (gL σ13 6 1)) <| hl (pC σ13 6 1 ((gI σ13 6 10)) x2) fun σ15 => hk (inb ((gI σ15 6 10)) (gL σ15 6 2)) <| hl (pC σ15 6 2 ((gI σ15 6 10)) x3) fun σ17 => hk (inb ((gI σ17 6 10)) (gL σ17 6 3)) <| hl (pC σ17 6 3 ((gI σ17 6 10)) ((-1))) fun σ19 => hk (inb ((gI σ19 6 10)) (gL σ19 6 4)) <| hl (pC σ19 6 4 ((gI σ19 6 10)) x4) fun σ21 => hk (inb ((gI σ21 6 10)) (gL σ21 6 5)) <| hl (pC σ21 6 5 ((gI σ21 6 10)) 0) fun σ23 => hk (inb ((gI σ23 6 10)) (gL σ23 6 6)) <| hl (pC σ23 6 6 ((gI σ23 6 10)) 1) fun σ25 => hk (inb ((gI σ25 6 10)) (gL σ25 6 7)) <| hl (pC σ25 6 7 ((gI σ25 6 10)) ((-1))) fun σ27 => hk (inb ((gI σ27 6 10)) (gL σ27 6 8)) <| hl (pC σ27 6 8 ((gI σ27 6 10)) ((-1))) fun σ29 => hk (inb ((gI σ29 6 10)) (gL σ29 6 9)) <| hl (pC σ29 6 9 ((gI σ29 6 10)) ((-1))) fun σ31 => hl (pI σ31 6 10 ((((gI σ31 6 10)) + 1))) fun σ32 => some ((gI σ31 6 10), σ32)
set_option maxRecDepth 20000 in
set_option maxHeartbeats 4000000 in
theorem okX6_make (l : Launch) (E : hc_E) (A : Nat → Prop) (d : Nat)  (hD : 6 ≤ d) {x1 : Int32} {x2 : Int32} {x3 : Int32} {x4 : Int32} {σ : hc_St} {r : (Int32 × hc_St)} (h : fm_X6_make  x1 x2 x3 x4 σ = some r) (am : Nat → Nat → Nat) : hc_M l hc_V0 yX6_make (ws_ yX6_make cX6_make 5 (some .int)) d E A [.ref (E.2.1 6), .int x1, .int x2, .int x3, .int x4] am [6] σ (.inl (some (.int r.1))) r.2 := by
  have hd1 : 1 ≤ d := by omega
  refine hc_enter2 (own := RX6) [(0, .ref (E.2.1 6)), (1, .int x1), (2, .int x2), (3, .int x3), (4, .int x4)] pl_X6 rfl hc_V0_st hc_G0_nd rfl (Nat.le_of_ble_eq_true rfl) (fun X hC hem => ?_)
  unfold fm_X6_make at h
  refine hr_aload_n hC dX6_make_0 rfl ?_
  refine hr_gI hC F6_10 dX6_make_1 q535 ?_
  refine hr_aload_n hC dX6_make_4 rfl ?_
  refine hr_gA hC F6_0 rfl dX6_make_5 q525 ?_
  refine hs_alen1 hC A6_0 dX6_make_8 ?_
  obtain ⟨r3, e4, h⟩ := hx_bind h
  have J5 : ∀ am11, hc_At hc_V0 E 5 X 16 [(0, .ref (E.2.1 6)), (1, .int x1), (2, .int x2), (3, .int x3), (4, .int x4)] [] r3 am11 [] := by
    intro am11
    refine hr_aload_n hC dX6_make_16 rfl ?_
    refine hr_gA hC F6_0 rfl dX6_make_17 q525 ?_
    refine hr_aload_n hC dX6_make_20 rfl ?_
    refine hr_gI hC F6_10 dX6_make_21 q535 ?_
    refine hr_iload_n hC dX6_make_24 rfl ?_
    obtain ⟨c12, h⟩ := hk_ok h
    obtain ⟨σ13, hσ13, h⟩ := hl_ok h
    refine hs_iast hC A6_0 c12 dX6_make_25 ?_
    rw [← hσ13]
    refine hr_aload_n hC dX6_make_26 rfl ?_
    refine hr_gA hC F6_1 rfl dX6_make_27 q526 ?_
    refine hr_aload_n hC dX6_make_30 rfl ?_
    refine hr_gI hC F6_10 dX6_make_31 q535 ?_
    refine hr_iload_n hC dX6_make_34 rfl ?_
    obtain ⟨c14, h⟩ := hk_ok h
    obtain ⟨σ15, hσ15, h⟩ := hl_ok h
    refine hs_iast hC A6_1 c14 dX6_make_35 ?_
    rw [← hσ15]
    refine hr_aload_n hC dX6_make_36 rfl ?_
    refine hr_gA hC F6_2 rfl dX6_make_37 q527 ?_
    refine hr_aload_n hC dX6_make_40 rfl ?_
    refine hr_gI hC F6_10 dX6_make_41 q535 ?_
    refine hr_iload_n hC dX6_make_44 rfl ?_
    obtain ⟨c16, h⟩ := hk_ok h
    obtain ⟨σ17, hσ17, h⟩ := hl_ok h
    refine hs_iast hC A6_2 c16 dX6_make_45 ?_
    rw [← hσ17]
    refine hr_aload_n hC dX6_make_46 rfl ?_
    refine hr_gA hC F6_3 rfl dX6_make_47 q528 ?_
    refine hr_aload_n hC dX6_make_50 rfl ?_
    refine hr_gI hC F6_10 dX6_make_51 q535 ?_
    refine hr_iconst (v := (-1)) hC dX6_make_54 rfl ?_
    obtain ⟨c18, h⟩ := hk_ok h
    obtain ⟨σ19, hσ19, h⟩ := hl_ok h
    refine hs_iast hC A6_3 c18 dX6_make_55 ?_
    rw [← hσ19]
    refine hr_aload_n hC dX6_make_56 rfl ?_
    refine hr_gA hC F6_4 rfl dX6_make_57 q529 ?_
    refine hr_aload_n hC dX6_make_60 rfl ?_
    refine hr_gI hC F6_10 dX6_make_61 q535 ?_
    refine hr_iload hC dX6_make_64 rfl ?_
    obtain ⟨c20, h⟩ := hk_ok h
    obtain ⟨σ21, hσ21, h⟩ := hl_ok h
    refine hs_iast hC A6_4 c20 dX6_make_66 ?_
    rw [← hσ21]
    refine hr_aload_n hC dX6_make_67 rfl ?_
    refine hr_gA hC F6_5 rfl dX6_make_68 q530 ?_
    refine hr_aload_n hC dX6_make_71 rfl ?_
    refine hr_gI hC F6_10 dX6_make_72 q535 ?_
    refine hr_iconst (v := 0) hC dX6_make_75 rfl ?_
    obtain ⟨c22, h⟩ := hk_ok h
    obtain ⟨σ23, hσ23, h⟩ := hl_ok h
    refine hs_iast hC A6_5 c22 dX6_make_76 ?_
    rw [← hσ23]
    refine hr_aload_n hC dX6_make_77 rfl ?_
    refine hr_gA hC F6_6 rfl dX6_make_78 q531 ?_
    refine hr_aload_n hC dX6_make_81 rfl ?_
    refine hr_gI hC F6_10 dX6_make_82 q535 ?_
    refine hr_iconst (v := 1) hC dX6_make_85 rfl ?_
    obtain ⟨c24, h⟩ := hk_ok h
    obtain ⟨σ25, hσ25, h⟩ := hl_ok h
    refine hs_iast hC A6_6 c24 dX6_make_86 ?_
    rw [← hσ25]
    refine hr_aload_n hC dX6_make_87 rfl ?_
    refine hr_gA hC F6_7 rfl dX6_make_88 q532 ?_
    refine hr_aload_n hC dX6_make_91 rfl ?_
    refine hr_gI hC F6_10 dX6_make_92 q535 ?_
    refine hr_iconst (v := (-1)) hC dX6_make_95 rfl ?_
    obtain ⟨c26, h⟩ := hk_ok h
    obtain ⟨σ27, hσ27, h⟩ := hl_ok h
    refine hs_iast hC A6_7 c26 dX6_make_96 ?_
    rw [← hσ27]
    refine hr_aload_n hC dX6_make_97 rfl ?_
    refine hr_gA hC F6_8 rfl dX6_make_98 q533 ?_
    refine hr_aload_n hC dX6_make_101 rfl ?_
    refine hr_gI hC F6_10 dX6_make_102 q535 ?_
    refine hr_iconst (v := (-1)) hC dX6_make_105 rfl ?_
    obtain ⟨c28, h⟩ := hk_ok h
    obtain ⟨σ29, hσ29, h⟩ := hl_ok h
    refine hs_iast hC A6_8 c28 dX6_make_106 ?_
    rw [← hσ29]
    refine hr_aload_n hC dX6_make_107 rfl ?_
    refine hr_gA hC F6_9 rfl dX6_make_108 q534 ?_
    refine hr_aload_n hC dX6_make_111 rfl ?_
    refine hr_gI hC F6_10 dX6_make_112 q535 ?_
    refine hr_iconst (v := (-1)) hC dX6_make_115 rfl ?_
    obtain ⟨c30, h⟩ := hk_ok h
    obtain ⟨σ31, hσ31, h⟩ := hl_ok h
    refine hs_iast hC A6_9 c30 dX6_make_116 ?_
    rw [← hσ31]
    refine hr_aload_n hC dX6_make_117 rfl ?_
    refine hr_dup hC dX6_make_118 rfl ?_
    refine hr_gI hC F6_10 dX6_make_119 q535 ?_
    refine hr_dup_x1 hC dX6_make_122 rfl rfl ?_
    refine hr_iconst (v := 1) hC dX6_make_123 rfl ?_
    refine hr_iadd hC dX6_make_124 ?_
    obtain ⟨σ32, hσ32, h⟩ := hl_ok h
    refine hr_pI hC F6_10 PX6_10 dX6_make_125 q535 ?_
    rw [← hσ32]
    obtain rfl := Option.some.inj h
    exact hr_iret hC dX6_make_128
  clear h
  have h := e4
  refine hr_icmp_ne (x := _) hC 16 dX6_make_9 (by decide) (fun c2 => ?_) (fun c2 => ?_)
  · rw [if_neg c2] at h
    obtain rfl := Option.some.inj h
    exact hr_sub _ rfl (J5 am)
  · rw [if_pos c2] at h
    refine hr_aload_n hC dX6_make_12 rfl ?_
    obtain ⟨r7, e8, h⟩ := hx_bind h
    refine hs_callV hC 6 [] _ dX6_make_13 q1234 q1236 qs11 q320 q1237 np_X6 rfl OB_6 pd_X6_grow (Nat.le_of_ble_eq_true rfl) hd1 (okX6_grow l E A (d - 1)  (by omega)  e8 am) (hc_rb rfl) rfl (fun am9 ha10 => ?_)
    obtain rfl := Option.some.inj h
    exact hr_sub _ rfl (J5 am9)
/-- HomeCompiler$Scanner.token()I -/
def fm_X5_token   (σ : hc_St) : Option Int32 := some ((gI σ 5 6))
set_option maxRecDepth 20000 in
set_option maxHeartbeats 4000000 in
theorem okX5_token (l : Launch) (E : hc_E) (A : Nat → Prop) (d : Nat)  (hD : 1 ≤ d)  {σ : hc_St} {r : Int32} (h : fm_X5_token   σ = some r) (am : Nat → Nat → Nat) : hc_M l hc_V0 yX5_token (ws_ yX5_token cX5_token 1 (some .int)) d E A [.ref (E.2.1 5)] am [] σ (.inl (some (.int r))) σ := by
  have hd1 : 1 ≤ d := by omega
  refine hc_enter2 (own := RX5) [(0, .ref (E.2.1 5))] pl_X5 rfl hc_V0_st hc_G0_nd rfl (Nat.le_of_ble_eq_true rfl) (fun X hC hem => ?_)
  unfold fm_X5_token at h
  refine hr_aload_n hC dX5_token_0 rfl ?_
  refine hr_gI hC F5_6 dX5_token_1 q491 ?_
  obtain rfl := Option.some.inj h
  exact hr_iret hC dX5_token_4
/-- HomeCompiler$Reader.is(I)Z -/
def fm_X7_is  (x1 : Int32) (σ : hc_St) : Option Int32 := Option.bind (fm_X5_token  σ) fun r1 => hl (α := Int32) ((if r1 = x1 then 1 else 0)) fun v7 => hk (hb01 v7) <| some v7
set_option maxRecDepth 20000 in
set_option maxHeartbeats 4000000 in
theorem okX7_is (l : Launch) (E : hc_E) (A : Nat → Prop) (d : Nat)  (hD : 2 ≤ d) {x1 : Int32} {σ : hc_St} {r : Int32} (h : fm_X7_is  x1 σ = some r) (am : Nat → Nat → Nat) : hc_M l hc_V0 yX7_is (ws_ yX7_is cX7_is 2 (some .boolean)) d E A [.ref (E.2.1 7), .int x1] am [] σ (.inl (some (.int r))) σ := by
  have hd1 : 1 ≤ d := by omega
  refine hc_enter2 (own := RX7) [(0, .ref (E.2.1 7)), (1, .int x1)] pl_X7 rfl hc_V0_st hc_G0_nd rfl (Nat.le_of_ble_eq_true rfl) (fun X hC hem => ?_)
  unfold fm_X7_is at h
  refine hr_aload_n hC dX7_is_0 rfl ?_
  refine hr_gO 5 hC F7_0 rfl dX7_is_1 q565 ?_
  obtain ⟨r1, e2, h⟩ := hx_bind h
  refine hs_callV0 hC 5 [] _ dX7_is_4 q1246 q1247 q1248 q319 q1249 np_X5 rfl OB_5 pd_X5_token (Nat.le_of_ble_eq_true rfl) hd1 (okX5_token l E A (d - 1)  (by omega)  e2 am) rfl ?_
  refine hr_iload_n hC dX7_is_7 rfl ?_
  obtain ⟨v7, hv7, h⟩ := hl_ok h
  have J9 : ∀ w10 : Int32, (if r1 = x1 then 1 else 0) = w10 → hc_At hc_V0 E 2 X 16 [] [.int w10] σ am [] := by
    intro w10 hw10
    obtain rfl := hv7.trans hw10
    obtain ⟨c8, h⟩ := hk_ok h
    obtain rfl := Option.some.inj h
    exact hr_zret hC (hb01_n c8) dX7_is_16
  refine hr_icmp_ne (x := _) hC 15 dX7_is_8 (by decide) (fun c11 => ?_) (fun c11 => ?_)
  · refine hr_iconst (v := 0) hC dX7_is_15 rfl ?_
    exact hr_sub _ rfl (J9 _ (by first | (rw [if_neg c11]; done) | (simp only [if_neg c11]; done) | rfl))
  · refine hr_iconst (v := 1) hC dX7_is_11 rfl ?_
    refine hr_goto hC 16 dX7_is_12 (by decide) ?_
    exact hr_sub _ rfl (J9 _ (by first | (rw [if_pos c11]; done) | (simp only [if_pos c11]; done) | rfl))
/-- HomeCompiler$Reader.isWord(I)Z -/
def fm_X7_isWord  (x1 : Int32) (σ : hc_St) : Option Int32 := Option.bind (fm_X7_is ((200 + x1)) σ) fun r1 => hk (hb01 r1) <| some r1
set_option maxRecDepth 20000 in
set_option maxHeartbeats 4000000 in
theorem okX7_isWord (l : Launch) (E : hc_E) (A : Nat → Prop) (d : Nat)  (hD : 3 ≤ d) {x1 : Int32} {σ : hc_St} {r : Int32} (h : fm_X7_isWord  x1 σ = some r) (am : Nat → Nat → Nat) : hc_M l hc_V0 yX7_isWord (ws_ yX7_isWord cX7_isWord 2 (some .boolean)) d E A [.ref (E.2.1 7), .int x1] am [] σ (.inl (some (.int r))) σ := by
  have hd1 : 1 ≤ d := by omega
  refine hc_enter2 (own := RX7) [(0, .ref (E.2.1 7)), (1, .int x1)] pl_X7 rfl hc_V0_st hc_G0_nd rfl (Nat.le_of_ble_eq_true rfl) (fun X hC hem => ?_)
  unfold fm_X7_isWord at h
  refine hr_aload_n hC dX7_isWord_0 rfl ?_
  refine hr_sipush (v := 200) hC dX7_isWord_1 rfl ?_
  refine hr_iload_n hC dX7_isWord_4 rfl ?_
  refine hr_iadd hC dX7_isWord_5 ?_
  obtain ⟨r1, e2, h⟩ := hx_bind h
  refine hs_callV0 hC 7 [_] _ dX7_isWord_6 q1242 q1244 qs12 q321 q1245 np_X7 rfl OB_7 pd_X7_is (Nat.le_of_ble_eq_true rfl) hd1 (okX7_is l E A (d - 1)  (by omega)  e2 am) rfl ?_
  obtain ⟨c5, h⟩ := hk_ok h
  obtain rfl := Option.some.inj h
  exact hr_zret hC (hb01_n c5) dX7_isWord_9
/-- HomeCompiler$Scanner.start()I -/
def fm_X5_start   (σ : hc_St) : Option Int32 := some ((gI σ 5 7))
set_option maxRecDepth 20000 in
set_option maxHeartbeats 4000000 in
theorem okX5_start (l : Launch) (E : hc_E) (A : Nat → Prop) (d : Nat)  (hD : 1 ≤ d)  {σ : hc_St} {r : Int32} (h : fm_X5_start   σ = some r) (am : Nat → Nat → Nat) : hc_M l hc_V0 yX5_start (ws_ yX5_start cX5_start 1 (some .int)) d E A [.ref (E.2.1 5)] am [] σ (.inl (some (.int r))) σ := by
  have hd1 : 1 ≤ d := by omega
  refine hc_enter2 (own := RX5) [(0, .ref (E.2.1 5))] pl_X5 rfl hc_V0_st hc_G0_nd rfl (Nat.le_of_ble_eq_true rfl) (fun X hC hem => ?_)
  unfold fm_X5_start at h
  refine hr_aload_n hC dX5_start_0 rfl ?_
  refine hr_gI hC F5_7 dX5_start_1 q492 ?_
  obtain rfl := Option.some.inj h
  exact hr_iret hC dX5_start_4
/-- HomeCompiler$Reader.need(Z)V -/
def fm_X7_need  (x0 : Int32) (σ : hc_St) : Option (Nat × Int32 × hc_St) := if x0 = 0 then (hk (hxr σ) <| some (1, 0, pU σ hxC hxS)) else (some (0, 0, σ))
theorem oknX7_need (l : Launch) (E : hc_E) (A : Nat → Prop) (d : Nat) (hD : 13 ≤ d) {x0 : Int32} {σ : hc_St} {r : Nat × Int32 × hc_St} (h : fm_X7_need x0 σ = some r) (am : Nat → Nat → Nat) : hc_N0 l yX7_need (ws_ yX7_need cX7_need 1 none) d E A [.int x0] am σ (hc_ot (fun v => none) r) r.2.2 :=
  hx_need (k := 1) [(0, .int x0)] hD pl_X7 rfl rfl (Nat.le_of_ble_eq_true rfl) rfl q1270 q1271 q341 (fun h1 h2 => hx_at1 h1 h2 q1313) (by decide +kernel) (by decide) dX7_need_0 dX7_need_1 dX7_need_4 dX7_need_7 dX7_need_8 dX7_need_11 dX7_need_12 h am
theorem okX7_need (l : Launch) (E : hc_E) (A : Nat → Prop) (d : Nat) (hD : 13 ≤ d) {x0 : Int32} {σ : hc_St} {r : Nat × Int32 × hc_St} (h : fm_X7_need x0 σ = some r) (am : Nat → Nat → Nat) : hc_M l hc_V0 yX7_need (ws_ yX7_need cX7_need 1 none) d E A [.int x0] am [] σ (hc_ot (fun v => none) r) r.2.2 := (oknX7_need l E A d hD h am).M
/-- HomeCompiler$Reader.opens()V -/
def fm_X7_opens (n : Nat)  (σ : hc_St) : Option (Nat × Int32 × hc_St) := hl (α := Int32) ((if 60 ≤ (gI σ 7 2) then 0 else 1)) fun v3 => Option.bind (fm_X7_need v3 σ) fun r4 => ht r4 <| hl (pI r4.2.2 7 2 ((((gI r4.2.2 7 2)) + 1))) fun σ9 => Option.bind (fm_X5_next n σ9) fun r10 => some (0, 0, r10)
set_option maxRecDepth 20000 in
set_option maxHeartbeats 4000000 in
theorem okX7_opens (l : Launch) (E : hc_E) (A : Nat → Prop) (d : Nat) (n : Nat) (hD : 14 ≤ d)  {σ : hc_St} {r : (Nat × Int32 × hc_St)} (h : fm_X7_opens n  σ = some r) (am : Nat → Nat → Nat) : hc_M l hc_V0 yX7_opens (ws_ yX7_opens cX7_opens 1 none) d E A [.ref (E.2.1 7)] am [2, 3, 4, 12, 22] σ (hc_ot (fun v => none) r) r.2.2 := by
  have hd1 : 1 ≤ d := by omega
  have hd8 : 9 ≤ d := by omega
  have hd12 : 12 ≤ d := by omega
  refine hc_enter2 (own := RX7) [(0, .ref (E.2.1 7))] pl_X7 rfl hc_V0_st hc_G0_nd rfl (Nat.le_of_ble_eq_true rfl) (fun X hC hem => ?_)
  have HX := fun z => hc_CX hC z
  unfold fm_X7_opens at h
  refine hr_aload_n hC dX7_opens_0 rfl ?_
  refine hr_gI hC F7_2 dX7_opens_1 q567 ?_
  refine hr_bipush (v := 60) hC dX7_opens_4 rfl ?_
  obtain ⟨v3, hv3, h⟩ := hl_ok h
  have J14 : ∀ w15 : Int32, (if 60 ≤ (gI σ 7 2) then 0 else 1) = w15 → hc_At hc_V0 E 1 X 14 [(0, .ref (E.2.1 7))] [.int w15] σ am [] := by
    intro w15 hw15
    obtain rfl := hv3.trans hw15
    obtain ⟨r4, e5, h⟩ := hx_bind h
    by_cases z8 : r4.1 = 0
    · rw [ht_0 z8] at h
      refine hs_callS0 hC [_] _ dX7_opens_14 q1267 q1268 q321 q1269 np_X7 rfl pd_X7_need (Nat.le_of_ble_eq_true rfl) hd1 (hc_M0 (r := r4) (okX7_need l E A (d - 1)  (by omega)  e5 am) z8) rfl ?_
      refine hr_aload_n hC dX7_opens_17 rfl ?_
      refine hr_dup hC dX7_opens_18 rfl ?_
      refine hr_gI hC F7_2 dX7_opens_19 q567 ?_
      refine hr_iconst (v := 1) hC dX7_opens_22 rfl ?_
      refine hr_iadd hC dX7_opens_23 ?_
      obtain ⟨σ9, hσ9, h⟩ := hl_ok h
      refine hr_pI hC F7_2 PX7_2 dX7_opens_24 q567 ?_
      rw [← hσ9]
      refine hr_aload_n hC dX7_opens_27 rfl ?_
      refine hr_gO 5 hC F7_0 rfl dX7_opens_28 q565 ?_
      obtain ⟨r10, e11, h⟩ := hx_bind h
      refine hs_callV hC 5 [] _ dX7_opens_31 q1262 q1076 q1077 q319 q1078 np_X5 rfl OB_5 pd_X5_next (Nat.le_of_ble_eq_true rfl) hd1 (okX5_next l E A (d - 1) n (by omega)  e11 am) (hc_rb rfl) rfl (fun am12 ha13 => ?_)
      obtain rfl := Option.some.inj h
      exact hr_vret hC dX7_opens_34
    · rw [ht_1 z8] at h
      obtain rfl := Option.some.inj h
      exact hs_callSx (HX z8) hem [_] _ dX7_opens_14 q1267 q1268 q321 q1269 np_X7 rfl pd_X7_need (Nat.le_of_ble_eq_true rfl) hd1 (hc_M1 (r := r4) (okX7_need l E A (d - 1)  (by omega)  e5 am) z8) (hc_rb rfl) rfl
  refine hr_icmp_ge (x := _) hC 13 dX7_opens_6 (by decide) (fun c16 => ?_) (fun c16 => ?_)
  · refine hr_iconst (v := 0) hC dX7_opens_13 rfl ?_
    exact hr_sub _ rfl (J14 _ (by first | (rw [if_pos c16]; done) | (simp only [if_pos c16]; done) | rfl))
  · refine hr_iconst (v := 1) hC dX7_opens_9 rfl ?_
    refine hr_goto hC 14 dX7_opens_10 (by decide) ?_
    exact hr_sub _ rfl (J14 _ (by first | (rw [if_neg c16]; done) | (simp only [if_neg c16]; done) | rfl))
/-- HomeCompiler$Reader.bracket(I)V -/
def fm_X7_bracket (n : Nat) (x1 : Int32) (σ : hc_St) : Option (Nat × Int32 × hc_St) := Option.bind (fm_X7_is x1 σ) fun r1 => Option.bind (fm_X7_need r1 σ) fun r5 => ht r5 <| Option.bind (fm_X7_opens n r5.2.2) fun r10 => ht r10 <| some (0, 0, r10.2.2)
set_option maxRecDepth 20000 in
set_option maxHeartbeats 4000000 in
theorem okX7_bracket (l : Launch) (E : hc_E) (A : Nat → Prop) (d : Nat) (n : Nat) (hD : 15 ≤ d) {x1 : Int32} {σ : hc_St} {r : (Nat × Int32 × hc_St)} (h : fm_X7_bracket n x1 σ = some r) (am : Nat → Nat → Nat) : hc_M l hc_V0 yX7_bracket (ws_ yX7_bracket cX7_bracket 2 none) d E A [.ref (E.2.1 7), .int x1] am [2, 3, 4, 12, 22] σ (hc_ot (fun v => none) r) r.2.2 := by
  have hd1 : 1 ≤ d := by omega
  have hd8 : 9 ≤ d := by omega
  have hd12 : 12 ≤ d := by omega
  refine hc_enter2 (own := RX7) [(0, .ref (E.2.1 7)), (1, .int x1)] pl_X7 rfl hc_V0_st hc_G0_nd rfl (Nat.le_of_ble_eq_true rfl) (fun X hC hem => ?_)
  have HX := fun z => hc_CX hC z
  unfold fm_X7_bracket at h
  refine hr_aload_n hC dX7_bracket_0 rfl ?_
  refine hr_iload_n hC dX7_bracket_1 rfl ?_
  obtain ⟨r1, e2, h⟩ := hx_bind h
  refine hs_callV0 hC 7 [_] _ dX7_bracket_2 q1242 q1244 qs12 q321 q1245 np_X7 rfl OB_7 pd_X7_is (Nat.le_of_ble_eq_true rfl) hd1 (okX7_is l E A (d - 1)  (by omega)  e2 am) rfl ?_
  obtain ⟨r5, e6, h⟩ := hx_bind h
  by_cases z9 : r5.1 = 0
  · rw [ht_0 z9] at h
    refine hs_callS0 hC [_] _ dX7_bracket_5 q1267 q1268 q321 q1269 np_X7 rfl pd_X7_need (Nat.le_of_ble_eq_true rfl) hd1 (hc_M0 (r := r5) (okX7_need l E A (d - 1)  (by omega)  e6 am) z9) rfl ?_
    refine hr_aload_n hC dX7_bracket_8 rfl ?_
    obtain ⟨r10, e11, h⟩ := hx_bind h
    by_cases z14 : r10.1 = 0
    · rw [ht_0 z14] at h
      refine hs_callV hC 7 [] _ dX7_bracket_9 q1336 q1338 qs17 q321 q1339 np_X7 rfl OB_7 pd_X7_opens (Nat.le_of_ble_eq_true rfl) hd1 (hc_M0 (r := r10) (okX7_opens l E A (d - 1) n (by omega)  e11 am) z14) (hc_rb rfl) rfl (fun am12 ha13 => ?_)
      obtain rfl := Option.some.inj h
      exact hr_vret hC dX7_bracket_12
    · rw [ht_1 z14] at h
      obtain rfl := Option.some.inj h
      exact hs_callVx (HX z14) hem 7 [] _ dX7_bracket_9 q1336 q1338 qs17 q321 q1339 np_X7 rfl OB_7 pd_X7_opens (Nat.le_of_ble_eq_true rfl) hd1 (hc_M1 (r := r10) (okX7_opens l E A (d - 1) n (by omega)  e11 am) z14) (hc_rb rfl) rfl
  · rw [ht_1 z9] at h
    obtain rfl := Option.some.inj h
    exact hs_callSx (HX z9) hem [_] _ dX7_bracket_5 q1267 q1268 q321 q1269 np_X7 rfl pd_X7_need (Nat.le_of_ble_eq_true rfl) hd1 (hc_M1 (r := r5) (okX7_need l E A (d - 1)  (by omega)  e6 am) z9) (hc_rb rfl) rfl
/-- HomeCompiler$Scanner.name()I -/
def fm_X5_name   (σ : hc_St) : Option Int32 := some ((gI σ 5 9))
set_option maxRecDepth 20000 in
set_option maxHeartbeats 4000000 in
theorem okX5_name (l : Launch) (E : hc_E) (A : Nat → Prop) (d : Nat)  (hD : 1 ≤ d)  {σ : hc_St} {r : Int32} (h : fm_X5_name   σ = some r) (am : Nat → Nat → Nat) : hc_M l hc_V0 yX5_name (ws_ yX5_name cX5_name 1 (some .int)) d E A [.ref (E.2.1 5)] am [] σ (.inl (some (.int r))) σ := by
  have hd1 : 1 ≤ d := by omega
  refine hc_enter2 (own := RX5) [(0, .ref (E.2.1 5))] pl_X5 rfl hc_V0_st hc_G0_nd rfl (Nat.le_of_ble_eq_true rfl) (fun X hC hem => ?_)
  unfold fm_X5_name at h
  refine hr_aload_n hC dX5_name_0 rfl ?_
  refine hr_gI hC F5_9 dX5_name_1 q494 ?_
  obtain rfl := Option.some.inj h
  exact hr_iret hC dX5_name_4
/-- HomeCompiler$Reader.name()I -/
def fm_X7_name (n : Nat)  (σ : hc_St) : Option (Nat × Int32 × hc_St) := Option.bind (fm_X7_is 1 σ) fun r1 => Option.bind (fm_X7_need r1 σ) fun r5 => ht r5 <| Option.bind (fm_X5_name  r5.2.2) fun r10 => Option.bind (fm_X5_next n r5.2.2) fun r14 => some (0, r10, r14)
set_option maxRecDepth 20000 in
set_option maxHeartbeats 4000000 in
theorem okX7_name (l : Launch) (E : hc_E) (A : Nat → Prop) (d : Nat) (n : Nat) (hD : 14 ≤ d)  {σ : hc_St} {r : (Nat × Int32 × hc_St)} (h : fm_X7_name n  σ = some r) (am : Nat → Nat → Nat) : hc_M l hc_V0 yX7_name (ws_ yX7_name cX7_name 2 (some .int)) d E A [.ref (E.2.1 7)] am [2, 3, 4, 12, 22] σ (hc_ot (fun v => some (.int v)) r) r.2.2 := by
  have hd1 : 1 ≤ d := by omega
  have hd8 : 9 ≤ d := by omega
  have hd12 : 12 ≤ d := by omega
  refine hc_enter2 (own := RX7) [(0, .ref (E.2.1 7))] pl_X7 rfl hc_V0_st hc_G0_nd rfl (Nat.le_of_ble_eq_true rfl) (fun X hC hem => ?_)
  have HX := fun z => hc_CX hC z
  unfold fm_X7_name at h
  refine hr_aload_n hC dX7_name_0 rfl ?_
  refine hr_iconst (v := 1) hC dX7_name_1 rfl ?_
  obtain ⟨r1, e2, h⟩ := hx_bind h
  refine hs_callV0 hC 7 [_] _ dX7_name_2 q1242 q1244 qs12 q321 q1245 np_X7 rfl OB_7 pd_X7_is (Nat.le_of_ble_eq_true rfl) hd1 (okX7_is l E A (d - 1)  (by omega)  e2 am) rfl ?_
  obtain ⟨r5, e6, h⟩ := hx_bind h
  by_cases z9 : r5.1 = 0
  · rw [ht_0 z9] at h
    refine hs_callS0 hC [_] _ dX7_name_5 q1267 q1268 q321 q1269 np_X7 rfl pd_X7_need (Nat.le_of_ble_eq_true rfl) hd1 (hc_M0 (r := r5) (okX7_need l E A (d - 1)  (by omega)  e6 am) z9) rfl ?_
    refine hr_aload_n hC dX7_name_8 rfl ?_
    refine hr_gO 5 hC F7_0 rfl dX7_name_9 q565 ?_
    obtain ⟨r10, e11, h⟩ := hx_bind h
    refine hs_callV0 hC 5 [] _ dX7_name_12 q1344 q1345 q1346 q319 q1347 np_X5 rfl OB_5 pd_X5_name (Nat.le_of_ble_eq_true rfl) hd1 (okX5_name l E A (d - 1)  (by omega)  e11 am) rfl ?_
    refine hr_istore_n hC dX7_name_15 (by decide) ?_
    refine hr_aload_n hC dX7_name_16 rfl ?_
    refine hr_gO 5 hC F7_0 rfl dX7_name_17 q565 ?_
    obtain ⟨r14, e15, h⟩ := hx_bind h
    refine hs_callV hC 5 [] _ dX7_name_20 q1262 q1076 q1077 q319 q1078 np_X5 rfl OB_5 pd_X5_next (Nat.le_of_ble_eq_true rfl) hd1 (okX5_next l E A (d - 1) n (by omega)  e15 am) (hc_rb rfl) rfl (fun am16 ha17 => ?_)
    refine hr_iload_n hC dX7_name_23 rfl ?_
    obtain rfl := Option.some.inj h
    exact hr_iret hC dX7_name_24
  · rw [ht_1 z9] at h
    obtain rfl := Option.some.inj h
    exact hs_callSx (HX z9) hem [_] _ dX7_name_5 q1267 q1268 q321 q1269 np_X7 rfl pd_X7_need (Nat.le_of_ble_eq_true rfl) hd1 (hc_M1 (r := r5) (okX7_need l E A (d - 1)  (by omega)  e6 am) z9) (hc_rb rfl) rfl
/-- HomeCompiler$Reader.takes(I)Z -/
def fm_X7_takes (n : Nat) (x1 : Int32) (σ : hc_St) : Option (Int32 × hc_St) := Option.bind (fm_X7_is x1 σ) fun r1 => Option.bind (α := hc_St) (if r1 = 0 then (some (σ)) else (Option.bind (fm_X5_next n σ) fun r11 => some (r11))) fun r7 => hk (hb01 r1) <| some (r1, r7)
set_option maxRecDepth 20000 in
set_option maxHeartbeats 4000000 in
theorem okX7_takes (l : Launch) (E : hc_E) (A : Nat → Prop) (d : Nat) (n : Nat) (hD : 13 ≤ d) {x1 : Int32} {σ : hc_St} {r : (Int32 × hc_St)} (h : fm_X7_takes n x1 σ = some r) (am : Nat → Nat → Nat) : hc_M l hc_V0 yX7_takes (ws_ yX7_takes cX7_takes 3 (some .boolean)) d E A [.ref (E.2.1 7), .int x1] am [2, 3, 4, 12, 22] σ (.inl (some (.int r.1))) r.2 := by
  have hd1 : 1 ≤ d := by omega
  have hd8 : 9 ≤ d := by omega
  have hd12 : 12 ≤ d := by omega
  refine hc_enter2 (own := RX7) [(0, .ref (E.2.1 7)), (1, .int x1)] pl_X7 rfl hc_V0_st hc_G0_nd rfl (Nat.le_of_ble_eq_true rfl) (fun X hC hem => ?_)
  unfold fm_X7_takes at h
  refine hr_aload_n hC dX7_takes_0 rfl ?_
  refine hr_iload_n hC dX7_takes_1 rfl ?_
  obtain ⟨r1, e2, h⟩ := hx_bind h
  refine hs_callV0 hC 7 [_] _ dX7_takes_2 q1242 q1244 qs12 q321 q1245 np_X7 rfl OB_7 pd_X7_is (Nat.le_of_ble_eq_true rfl) hd1 (okX7_is l E A (d - 1)  (by omega)  e2 am) rfl ?_
  refine hr_istore_n hC dX7_takes_5 (by decide) ?_
  refine hr_iload_n hC dX7_takes_6 rfl ?_
  obtain ⟨r7, e8, h⟩ := hx_bind h
  have J9 : ∀ am15, hc_At hc_V0 E 3 X 17 [(2, .int r1)] [] r7 am15 [] := by
    intro am15
    refine hr_iload_n hC dX7_takes_17 rfl ?_
    obtain ⟨c16, h⟩ := hk_ok h
    obtain rfl := Option.some.inj h
    exact hr_zret hC (hb01_n c16) dX7_takes_18
  clear h
  have h := e8
  refine hr_if_eq (x := _) hC 17 dX7_takes_7 (by decide) (fun c6 => ?_) (fun c6 => ?_)
  · rw [if_pos c6] at h
    obtain rfl := Option.some.inj h
    exact hr_sub _ rfl (J9 am)
  · rw [if_neg c6] at h
    refine hr_aload_n hC dX7_takes_10 rfl ?_
    refine hr_gO 5 hC F7_0 rfl dX7_takes_11 q565 ?_
    obtain ⟨r11, e12, h⟩ := hx_bind h
    refine hs_callV hC 5 [] _ dX7_takes_14 q1262 q1076 q1077 q319 q1078 np_X5 rfl OB_5 pd_X5_next (Nat.le_of_ble_eq_true rfl) hd1 (okX5_next l E A (d - 1) n (by omega)  e12 am) (hc_rb rfl) rfl (fun am13 ha14 => ?_)
    obtain rfl := Option.some.inj h
    exact hr_sub _ rfl (J9 am13)
