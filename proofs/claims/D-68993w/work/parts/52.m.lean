set_option maxRecDepth 20000
def okg_X21_statements (l : Launch) (E : hc_E) (A : Nat → Prop) (d : Nat) (am : Nat → Nat → Nat) (w : Nat) (a : List Int32) (σ : hc_St) (r : (Int32 × hc_St)) : Prop := match w with
  | 0 => hc_M l hc_V0 yX21_statements (ws_ yX21_statements cX21_statements 3 none) d E A [.ref (E.2.1 23), .int (a.getD 0 0)] am [] σ (.inl (none)) r.2
  | 1 => hc_M l hc_V0 yX21_checkStatement (ws_ yX21_checkStatement cX21_checkStatement 3 none) d E A [.ref (E.2.1 23), .int (a.getD 0 0)] am [] σ (.inl (none)) r.2
  | 2 => hc_M l hc_V0 yX21_checkBlock (ws_ yX21_checkBlock cX21_checkBlock 4 none) d E A [.ref (E.2.1 23), .int (a.getD 0 0)] am [] σ (.inl (none)) r.2
  | 3 => hc_M l hc_V0 yX21_checkBody (ws_ yX21_checkBody cX21_checkBody 2 none) d E A [.ref (E.2.1 23), .int (a.getD 0 0)] am [] σ (.inl (none)) r.2
  | 4 => hc_M l hc_V0 yX21_checkFor (ws_ yX21_checkFor cX21_checkFor 4 none) d E A [.ref (E.2.1 23), .int (a.getD 0 0)] am [] σ (.inl (none)) r.2
  | 5 => hc_M l hc_V0 yX21_checkSwitch (ws_ yX21_checkSwitch cX21_checkSwitch 7 none) d E A [.ref (E.2.1 23), .int (a.getD 0 0)] am [] σ (.inl (none)) r.2
  | _ => True
def lp_X21_statements_2 (n : Nat) (k0 : Nat) (rec : Nat → List Int32 → hc_St → Option (Int32 × hc_St)) : Nat → Int32 → hc_St → Option (hc_St)
  | 0, _, _ => none
  | m + 1, y2, σ => if y2 < 0 then (some (σ)) else (Option.bind (rec 1 [y2] σ) fun r3 => hk (inb y2 (gL r3.2 23 25)) <| lp_X21_statements_2 n k0 rec m ((gC r3.2 23 25 y2)) r3.2)
/-- HomeCompilerModel.statements(I)V -/
def bd_X21_statements (n : Nat) (k0 : Nat) (rec : Nat → List Int32 → hc_St → Option (Int32 × hc_St)) (x1 : Int32) (σ : hc_St) : Option (Int32 × hc_St) := Option.bind (lp_X21_statements_2 n k0 rec n x1 σ) fun r8 => some (0, r8)
set_option maxRecDepth 20000 in
set_option maxHeartbeats 4000000 in
theorem ll_X21_statements_2 {l : Launch} {E : hc_E} {A : Nat → Prop} {am : Nat → Nat → Nat} {d : Nat} {kk : Nat} {X : hc_X} (n : Nat) (k0 : Nat) (rec : Nat → List Int32 → hc_St → Option (Int32 × hc_St)) (hD : kk + 2 * k0 + 17 ≤ d) (hem : X.2.2.2.2.2.2.2.2.2.1.exceptionTable.isEmpty = true) (IH : ∀ (w : Nat) (a : List Int32) (σ : hc_St) (r : (Int32 × hc_St)), rec w a σ = some r → ∀ am, okg_X21_statements l E A (d - 1) am w a σ r) {oc : hc_Oc} {σe : hc_St} (hC : hc_C hc_V0 E cX21_statements 3 RX21 none d oc σe (l, A, am, []) X) : ∀ (m : Nat) (σ : hc_St) (y2 : Int32) (rl : hc_St) (am1 : Nat → Nat → Nat), lp_X21_statements_2 n k0 rec m y2 σ = some rl → (hc_At hc_V0 E 3 X 21 [] [] rl am1 []) → hc_At hc_V0 E 3 X 2 [(0, .ref (E.2.1 23)), (2, .int y2)] [] σ am1 [] := by
  have hd1 : 1 ≤ d := by omega
  have hd8 : 9 ≤ d := by omega
  have hd12 : 12 ≤ d := by omega
  intro m
  induction m with
  | zero =>
    intro σ y2 rl am1 h
    cases h
  | succ m ih =>
    intro σ y2 rl am1 h JX
    rw [lp_X21_statements_2] at h
    refine hr_iload_n hC dX21_statements_2 rfl ?_
    refine hr_if_lt (x := _) hC 21 dX21_statements_3 (by decide) (fun c2 => ?_) (fun c2 => ?_)
    · rw [if_pos c2] at h
      obtain rfl := Option.some.inj h
      exact hr_sub _ rfl (JX)
    · rw [if_neg c2] at h
      refine hr_aload_n hC dX21_statements_6 rfl ?_
      refine hr_iload_n hC dX21_statements_7 rfl ?_
      obtain ⟨r3, e4, h⟩ := hx_bind h
      refine hs_callV0 hC 23 [_] _ dX21_statements_8 q3426 q3428 qs243 q335 q3429 np_X21 rfl OB_23 pd_X21_checkStatement (Nat.le_of_ble_eq_true rfl) hd1 (IH _ _ _ _ e4 am1) rfl ?_
      refine hr_aload_n hC dX21_statements_11 rfl ?_
      refine hr_gA hC F23_25 rfl dX21_statements_12 q2867 ?_
      refine hr_iload_n hC dX21_statements_15 rfl ?_
      obtain ⟨c7, h⟩ := hk_ok h
      refine hs_iald hC A23_25 c7 dX21_statements_16 ?_
      refine hr_istore_n hC dX21_statements_17 (by decide) ?_
      refine hr_goto hC 2 dX21_statements_18 (by decide) ?_
      exact hr_sub _ rfl (ih _ _ _ am1 h JX)
set_option maxRecDepth 20000 in
set_option maxHeartbeats 4000000 in
theorem okbX21_statements (l : Launch) (E : hc_E) (A : Nat → Prop) (d : Nat) {kk : Nat} (n : Nat) (k0 : Nat) (rec : Nat → List Int32 → hc_St → Option (Int32 × hc_St)) (hD : kk + 2 * k0 + 17 ≤ d) (IH : ∀ (w : Nat) (a : List Int32) (σ : hc_St) (r : (Int32 × hc_St)), rec w a σ = some r → ∀ am, okg_X21_statements l E A (d - 1) am w a σ r) {x1 : Int32} {σ : hc_St} {r : (Int32 × hc_St)} (h : bd_X21_statements n k0 rec x1 σ = some r) (am : Nat → Nat → Nat) : hc_M l hc_V0 yX21_statements (ws_ yX21_statements cX21_statements 3 none) d E A [.ref (E.2.1 23), .int x1] am [] σ (.inl (none)) r.2 := by
  have hd1 : 1 ≤ d := by omega
  have hd8 : 9 ≤ d := by omega
  have hd12 : 12 ≤ d := by omega
  refine hc_enter2 (own := RX21) [(0, .ref (E.2.1 23)), (1, .int x1)] pl_X21 rfl hc_V0_st hc_G0_nd rfl (Nat.le_of_ble_eq_true rfl) (fun X hC hem => ?_)
  unfold bd_X21_statements at h
  refine hr_iload_n hC dX21_statements_0 rfl ?_
  refine hr_istore_n hC dX21_statements_1 (by decide) ?_
  obtain ⟨r8, e9, h⟩ := hx_bind h
  refine hr_sub _ rfl (ll_X21_statements_2 n k0 rec hD hem IH hC n _ _ _ am e9 ?_)
  obtain rfl := Option.some.inj h
  exact hr_vret hC dX21_statements_21
/-- HomeCompilerModel.checkStatement(I)V -/
def bd_X21_checkStatement (n : Nat) (k0 : Nat) (rec : Nat → List Int32 → hc_St → Option (Int32 × hc_St)) (x1 : Int32) (σ : hc_St) : Option (Int32 × hc_St) := hk (inb x1 (gL σ 23 18)) <| Option.bind (α := hc_St) (if (gC σ 23 18 x1).toInt8.toInt32 = 20 then (Option.bind (rec 2 [x1] σ) fun r24 => some (r24.2)) else if (gC σ 23 18 x1).toInt8.toInt32 = 21 then (some (σ)) else if (gC σ 23 18 x1).toInt8.toInt32 = 22 then (hk (inb x1 (gL σ 23 21)) <| Option.bind (fm_X21_checkAlone n k0 ((gC σ 23 21 x1)) σ) fun r29 => some (r29)) else if (gC σ 23 18 x1).toInt8.toInt32 = 23 then (Option.bind (fm_X21_declare n k0 x1 0 σ) fun r33 => some (r33)) else if (gC σ 23 18 x1).toInt8.toInt32 = 24 then (hk (inb x1 (gL σ 23 21)) <| Option.bind (fm_X21_check n k0 ((gC σ 23 21 x1)) 1 σ) fun r38 => hk (inb x1 (gL r38.2 23 22)) <| Option.bind (rec 1 [((gC r38.2 23 22 x1))] r38.2) fun r43 => hk (inb x1 (gL r43.2 23 23)) <| if (gC r43.2 23 23 x1) < 0 then (some (r43.2)) else (hk (inb x1 (gL r43.2 23 23)) <| Option.bind (rec 1 [((gC r43.2 23 23 x1))] r43.2) fun r51 => some (r51.2))) else if (gC σ 23 18 x1).toInt8.toInt32 = 25 then (hk (inb x1 (gL σ 23 21)) <| Option.bind (fm_X21_check n k0 ((gC σ 23 21 x1)) 1 σ) fun r56 => hk (inb x1 (gL r56.2 23 22)) <| Option.bind (rec 3 [((gC r56.2 23 22 x1))] r56.2) fun r61 => some (r61.2)) else if (gC σ 23 18 x1).toInt8.toInt32 = 26 then (hk (inb x1 (gL σ 23 22)) <| Option.bind (rec 3 [((gC σ 23 22 x1))] σ) fun r66 => hk (inb x1 (gL r66.2 23 21)) <| Option.bind (fm_X21_check n k0 ((gC r66.2 23 21 x1)) 1 r66.2) fun r71 => some (r71.2)) else if (gC σ 23 18 x1).toInt8.toInt32 = 27 then (Option.bind (rec 4 [x1] σ) fun r75 => some (r75.2)) else if (gC σ 23 18 x1).toInt8.toInt32 = 28 then (Option.bind (rec 5 [x1] σ) fun r79 => some (r79.2)) else if (gC σ 23 18 x1).toInt8.toInt32 = 33 then (Option.bind (fm_X21_checkReturn n k0 x1 σ) fun r83 => some (r83)) else (Option.bind (α := Int32) (if 0 < (gI σ 23 49) then (some (1)) else (hk (inb x1 (gL σ 23 18)) <| if (gC σ 23 18 x1).toInt8.toInt32 = 31 then (if (gI σ 23 50) ≤ 0 then (some (0)) else (some (1))) else (some (0)))) fun r8 => if r8 = 0 then (hk (inb x1 (gL σ 23 19)) <| Option.bind (fm_X21_bad 9 ((gC σ 23 19 x1)) σ) fun r20 => some (r20)) else (some (σ)))) fun r2 => some (0, r2)
set_option maxRecDepth 20000 in
set_option maxHeartbeats 4000000 in
theorem okbX21_checkStatement (l : Launch) (E : hc_E) (A : Nat → Prop) (d : Nat) {kk : Nat} (n : Nat) (k0 : Nat) (rec : Nat → List Int32 → hc_St → Option (Int32 × hc_St)) (hD : kk + 2 * k0 + 17 ≤ d) (IH : ∀ (w : Nat) (a : List Int32) (σ : hc_St) (r : (Int32 × hc_St)), rec w a σ = some r → ∀ am, okg_X21_statements l E A (d - 1) am w a σ r) {x1 : Int32} {σ : hc_St} {r : (Int32 × hc_St)} (h : bd_X21_checkStatement n k0 rec x1 σ = some r) (am : Nat → Nat → Nat) : hc_M l hc_V0 yX21_checkStatement (ws_ yX21_checkStatement cX21_checkStatement 3 none) d E A [.ref (E.2.1 23), .int x1] am [] σ (.inl (none)) r.2 := by
  have hd1 : 1 ≤ d := by omega
  have hd8 : 9 ≤ d := by omega
  have hd12 : 12 ≤ d := by omega
  refine hc_enter2 (own := RX21) [(0, .ref (E.2.1 23)), (1, .int x1)] pl_X21 rfl hc_V0_st hc_G0_nd rfl (Nat.le_of_ble_eq_true rfl) (fun X hC hem => ?_)
  unfold bd_X21_checkStatement at h
  refine hr_aload_n hC dX21_checkStatement_0 rfl ?_
  refine hr_gA hC F23_18 rfl dX21_checkStatement_1 q2860 ?_
  refine hr_iload_n hC dX21_checkStatement_4 rfl ?_
  obtain ⟨c1, h⟩ := hk_ok h
  refine hs_bald hC A23_18 c1 dX21_checkStatement_5 ?_
  obtain ⟨r2, e3, h⟩ := hx_bind h
  have J4 : hc_At hc_V0 E 3 X 274 [] [] r2 am [] := by
    obtain rfl := Option.some.inj h
    exact hr_vret hC dX21_checkStatement_274
  clear h
  have h := e3
  by_cases c87 : (gC σ 23 18 x1).toInt8.toInt32 = 20
  · rw [if_pos c87] at h
    refine hr_tableIn hC 76 dX21_checkStatement_6 (by rw [c87] <;> decide) (by rw [c87] <;> decide) (by rw [c87] <;> rfl) (by decide) ?_
    refine hr_aload_n hC dX21_checkStatement_76 rfl ?_
    refine hr_iload_n hC dX21_checkStatement_77 rfl ?_
    obtain ⟨r24, e25, h⟩ := hx_bind h
    refine hs_callV0 hC 23 [_] _ dX21_checkStatement_78 q3430 q3432 qs244 q335 q3433 np_X21 rfl OB_23 pd_X21_checkBlock (Nat.le_of_ble_eq_true rfl) hd1 (IH _ _ _ _ e25 am) rfl ?_
    refine hr_goto hC 274 dX21_checkStatement_81 (by decide) ?_
    obtain rfl := Option.some.inj h
    exact hr_sub _ rfl (J4)
  rw [if_neg c87] at h
  by_cases c88 : (gC σ 23 18 x1).toInt8.toInt32 = 21
  · rw [if_pos c88] at h
    refine hr_tableIn hC 84 dX21_checkStatement_6 (by rw [c88] <;> decide) (by rw [c88] <;> decide) (by rw [c88] <;> rfl) (by decide) ?_
    refine hr_goto hC 274 dX21_checkStatement_84 (by decide) ?_
    obtain rfl := Option.some.inj h
    exact hr_sub _ rfl (J4)
  rw [if_neg c88] at h
  by_cases c89 : (gC σ 23 18 x1).toInt8.toInt32 = 22
  · rw [if_pos c89] at h
    refine hr_tableIn hC 87 dX21_checkStatement_6 (by rw [c89] <;> decide) (by rw [c89] <;> decide) (by rw [c89] <;> rfl) (by decide) ?_
    refine hr_aload_n hC dX21_checkStatement_87 rfl ?_
    refine hr_aload_n hC dX21_checkStatement_88 rfl ?_
    refine hr_gA hC F23_21 rfl dX21_checkStatement_89 q2863 ?_
    refine hr_iload_n hC dX21_checkStatement_92 rfl ?_
    obtain ⟨c28, h⟩ := hk_ok h
    refine hs_iald hC A23_21 c28 dX21_checkStatement_93 ?_
    obtain ⟨r29, e30, h⟩ := hx_bind h
    refine hs_callV0 hC 23 [_] _ dX21_checkStatement_94 q3438 q3440 qs246 q335 q3441 np_X21 rfl OB_23 pd_X21_checkAlone (Nat.le_of_ble_eq_true rfl) hd1 (okX21_checkAlone l E A (d - 1) n k0 (by omega)  e30 am) rfl ?_
    refine hr_goto hC 274 dX21_checkStatement_97 (by decide) ?_
    obtain rfl := Option.some.inj h
    exact hr_sub _ rfl (J4)
  rw [if_neg c89] at h
  by_cases c90 : (gC σ 23 18 x1).toInt8.toInt32 = 23
  · rw [if_pos c90] at h
    refine hr_tableIn hC 100 dX21_checkStatement_6 (by rw [c90] <;> decide) (by rw [c90] <;> decide) (by rw [c90] <;> rfl) (by decide) ?_
    refine hr_aload_n hC dX21_checkStatement_100 rfl ?_
    refine hr_iload_n hC dX21_checkStatement_101 rfl ?_
    refine hr_iconst (v := 0) hC dX21_checkStatement_102 rfl ?_
    obtain ⟨r33, e34, h⟩ := hx_bind h
    refine hs_callV0 hC 23 [_, _] _ dX21_checkStatement_103 q3494 q3496 qs260 q335 q3497 np_X21 rfl OB_23 pd_X21_declare (Nat.le_of_ble_eq_true rfl) hd1 (okX21_declare l E A (d - 1) n k0 (by omega)  e34 am) rfl ?_
    refine hr_goto hC 274 dX21_checkStatement_106 (by decide) ?_
    obtain rfl := Option.some.inj h
    exact hr_sub _ rfl (J4)
  rw [if_neg c90] at h
  by_cases c91 : (gC σ 23 18 x1).toInt8.toInt32 = 24
  · rw [if_pos c91] at h
    refine hr_tableIn hC 109 dX21_checkStatement_6 (by rw [c91] <;> decide) (by rw [c91] <;> decide) (by rw [c91] <;> rfl) (by decide) ?_
    refine hr_aload_n hC dX21_checkStatement_109 rfl ?_
    refine hr_aload_n hC dX21_checkStatement_110 rfl ?_
    refine hr_gA hC F23_21 rfl dX21_checkStatement_111 q2863 ?_
    refine hr_iload_n hC dX21_checkStatement_114 rfl ?_
    obtain ⟨c37, h⟩ := hk_ok h
    refine hs_iald hC A23_21 c37 dX21_checkStatement_115 ?_
    refine hr_iconst (v := 1) hC dX21_checkStatement_116 rfl ?_
    obtain ⟨r38, e39, h⟩ := hx_bind h
    refine hs_callV0 hC 23 [_, _] _ dX21_checkStatement_117 q3442 q3444 qs247 q335 q3445 np_X21 rfl OB_23 pd_X21_check (Nat.le_of_ble_eq_true rfl) hd1 (okX21_check l E A (d - 1) n k0 (by omega)  e39 am) rfl ?_
    refine hr_pop hC dX21_checkStatement_120 rfl ?_
    refine hr_aload_n hC dX21_checkStatement_121 rfl ?_
    refine hr_aload_n hC dX21_checkStatement_122 rfl ?_
    refine hr_gA hC F23_22 rfl dX21_checkStatement_123 q2864 ?_
    refine hr_iload_n hC dX21_checkStatement_126 rfl ?_
    obtain ⟨c42, h⟩ := hk_ok h
    refine hs_iald hC A23_22 c42 dX21_checkStatement_127 ?_
    obtain ⟨r43, e44, h⟩ := hx_bind h
    refine hs_callV0 hC 23 [_] _ dX21_checkStatement_128 q3426 q3428 qs243 q335 q3429 np_X21 rfl OB_23 pd_X21_checkStatement (Nat.le_of_ble_eq_true rfl) hd1 (IH _ _ _ _ e44 am) rfl ?_
    refine hr_aload_n hC dX21_checkStatement_131 rfl ?_
    refine hr_gA hC F23_23 rfl dX21_checkStatement_132 q2865 ?_
    refine hr_iload_n hC dX21_checkStatement_135 rfl ?_
    obtain ⟨c47, h⟩ := hk_ok h
    refine hs_iald hC A23_23 c47 dX21_checkStatement_136 ?_
    refine hr_if_lt (x := _) hC 274 dX21_checkStatement_137 (by decide) (fun c49 => ?_) (fun c49 => ?_)
    · rw [if_pos c49] at h
      obtain rfl := Option.some.inj h
      exact hr_sub _ rfl (J4)
    · rw [if_neg c49] at h
      refine hr_aload_n hC dX21_checkStatement_140 rfl ?_
      refine hr_aload_n hC dX21_checkStatement_141 rfl ?_
      refine hr_gA hC F23_23 rfl dX21_checkStatement_142 q2865 ?_
      refine hr_iload_n hC dX21_checkStatement_145 rfl ?_
      obtain ⟨c50, h⟩ := hk_ok h
      refine hs_iald hC A23_23 c50 dX21_checkStatement_146 ?_
      obtain ⟨r51, e52, h⟩ := hx_bind h
      refine hs_callV0 hC 23 [_] _ dX21_checkStatement_147 q3426 q3428 qs243 q335 q3429 np_X21 rfl OB_23 pd_X21_checkStatement (Nat.le_of_ble_eq_true rfl) hd1 (IH _ _ _ _ e52 am) rfl ?_
      refine hr_goto hC 274 dX21_checkStatement_150 (by decide) ?_
      obtain rfl := Option.some.inj h
      exact hr_sub _ rfl (J4)
  rw [if_neg c91] at h
  by_cases c92 : (gC σ 23 18 x1).toInt8.toInt32 = 25
  · rw [if_pos c92] at h
    refine hr_tableIn hC 153 dX21_checkStatement_6 (by rw [c92] <;> decide) (by rw [c92] <;> decide) (by rw [c92] <;> rfl) (by decide) ?_
    refine hr_aload_n hC dX21_checkStatement_153 rfl ?_
    refine hr_aload_n hC dX21_checkStatement_154 rfl ?_
    refine hr_gA hC F23_21 rfl dX21_checkStatement_155 q2863 ?_
    refine hr_iload_n hC dX21_checkStatement_158 rfl ?_
    obtain ⟨c55, h⟩ := hk_ok h
    refine hs_iald hC A23_21 c55 dX21_checkStatement_159 ?_
    refine hr_iconst (v := 1) hC dX21_checkStatement_160 rfl ?_
    obtain ⟨r56, e57, h⟩ := hx_bind h
    refine hs_callV0 hC 23 [_, _] _ dX21_checkStatement_161 q3442 q3444 qs247 q335 q3445 np_X21 rfl OB_23 pd_X21_check (Nat.le_of_ble_eq_true rfl) hd1 (okX21_check l E A (d - 1) n k0 (by omega)  e57 am) rfl ?_
    refine hr_pop hC dX21_checkStatement_164 rfl ?_
    refine hr_aload_n hC dX21_checkStatement_165 rfl ?_
    refine hr_aload_n hC dX21_checkStatement_166 rfl ?_
    refine hr_gA hC F23_22 rfl dX21_checkStatement_167 q2864 ?_
    refine hr_iload_n hC dX21_checkStatement_170 rfl ?_
    obtain ⟨c60, h⟩ := hk_ok h
    refine hs_iald hC A23_22 c60 dX21_checkStatement_171 ?_
    obtain ⟨r61, e62, h⟩ := hx_bind h
    refine hs_callV0 hC 23 [_] _ dX21_checkStatement_172 q3502 q3504 qs262 q335 q3505 np_X21 rfl OB_23 pd_X21_checkBody (Nat.le_of_ble_eq_true rfl) hd1 (IH _ _ _ _ e62 am) rfl ?_
    refine hr_goto hC 274 dX21_checkStatement_175 (by decide) ?_
    obtain rfl := Option.some.inj h
    exact hr_sub _ rfl (J4)
  rw [if_neg c92] at h
  by_cases c93 : (gC σ 23 18 x1).toInt8.toInt32 = 26
  · rw [if_pos c93] at h
    refine hr_tableIn hC 178 dX21_checkStatement_6 (by rw [c93] <;> decide) (by rw [c93] <;> decide) (by rw [c93] <;> rfl) (by decide) ?_
    refine hr_aload_n hC dX21_checkStatement_178 rfl ?_
    refine hr_aload_n hC dX21_checkStatement_179 rfl ?_
    refine hr_gA hC F23_22 rfl dX21_checkStatement_180 q2864 ?_
    refine hr_iload_n hC dX21_checkStatement_183 rfl ?_
    obtain ⟨c65, h⟩ := hk_ok h
    refine hs_iald hC A23_22 c65 dX21_checkStatement_184 ?_
    obtain ⟨r66, e67, h⟩ := hx_bind h
    refine hs_callV0 hC 23 [_] _ dX21_checkStatement_185 q3502 q3504 qs262 q335 q3505 np_X21 rfl OB_23 pd_X21_checkBody (Nat.le_of_ble_eq_true rfl) hd1 (IH _ _ _ _ e67 am) rfl ?_
    refine hr_aload_n hC dX21_checkStatement_188 rfl ?_
    refine hr_aload_n hC dX21_checkStatement_189 rfl ?_
    refine hr_gA hC F23_21 rfl dX21_checkStatement_190 q2863 ?_
    refine hr_iload_n hC dX21_checkStatement_193 rfl ?_
    obtain ⟨c70, h⟩ := hk_ok h
    refine hs_iald hC A23_21 c70 dX21_checkStatement_194 ?_
    refine hr_iconst (v := 1) hC dX21_checkStatement_195 rfl ?_
    obtain ⟨r71, e72, h⟩ := hx_bind h
    refine hs_callV0 hC 23 [_, _] _ dX21_checkStatement_196 q3442 q3444 qs247 q335 q3445 np_X21 rfl OB_23 pd_X21_check (Nat.le_of_ble_eq_true rfl) hd1 (okX21_check l E A (d - 1) n k0 (by omega)  e72 am) rfl ?_
    refine hr_pop hC dX21_checkStatement_199 rfl ?_
    refine hr_goto hC 274 dX21_checkStatement_200 (by decide) ?_
    obtain rfl := Option.some.inj h
    exact hr_sub _ rfl (J4)
  rw [if_neg c93] at h
  by_cases c94 : (gC σ 23 18 x1).toInt8.toInt32 = 27
  · rw [if_pos c94] at h
    refine hr_tableIn hC 203 dX21_checkStatement_6 (by rw [c94] <;> decide) (by rw [c94] <;> decide) (by rw [c94] <;> rfl) (by decide) ?_
    refine hr_aload_n hC dX21_checkStatement_203 rfl ?_
    refine hr_iload_n hC dX21_checkStatement_204 rfl ?_
    obtain ⟨r75, e76, h⟩ := hx_bind h
    refine hs_callV0 hC 23 [_] _ dX21_checkStatement_205 q3506 q3508 qs263 q335 q3509 np_X21 rfl OB_23 pd_X21_checkFor (Nat.le_of_ble_eq_true rfl) hd1 (IH _ _ _ _ e76 am) rfl ?_
    refine hr_goto hC 274 dX21_checkStatement_208 (by decide) ?_
    obtain rfl := Option.some.inj h
    exact hr_sub _ rfl (J4)
  rw [if_neg c94] at h
  by_cases c95 : (gC σ 23 18 x1).toInt8.toInt32 = 28
  · rw [if_pos c95] at h
    refine hr_tableIn hC 211 dX21_checkStatement_6 (by rw [c95] <;> decide) (by rw [c95] <;> decide) (by rw [c95] <;> rfl) (by decide) ?_
    refine hr_aload_n hC dX21_checkStatement_211 rfl ?_
    refine hr_iload_n hC dX21_checkStatement_212 rfl ?_
    obtain ⟨r79, e80, h⟩ := hx_bind h
    refine hs_callV0 hC 23 [_] _ dX21_checkStatement_213 q3510 q3512 qs264 q335 q3513 np_X21 rfl OB_23 pd_X21_checkSwitch (Nat.le_of_ble_eq_true rfl) hd1 (IH _ _ _ _ e80 am) rfl ?_
    refine hr_goto hC 274 dX21_checkStatement_216 (by decide) ?_
    obtain rfl := Option.some.inj h
    exact hr_sub _ rfl (J4)
  rw [if_neg c95] at h
  by_cases c96 : (gC σ 23 18 x1).toInt8.toInt32 = 33
  · rw [if_pos c96] at h
    refine hr_tableIn hC 219 dX21_checkStatement_6 (by rw [c96] <;> decide) (by rw [c96] <;> decide) (by rw [c96] <;> rfl) (by decide) ?_
    refine hr_aload_n hC dX21_checkStatement_219 rfl ?_
    refine hr_iload_n hC dX21_checkStatement_220 rfl ?_
    obtain ⟨r83, e84, h⟩ := hx_bind h
    refine hs_callV0 hC 23 [_] _ dX21_checkStatement_221 q3514 q3516 qs265 q335 q3517 np_X21 rfl OB_23 pd_X21_checkReturn (Nat.le_of_ble_eq_true rfl) hd1 (okX21_checkReturn l E A (d - 1) n k0 (by omega)  e84 am) rfl ?_
    refine hr_goto hC 274 dX21_checkStatement_224 (by decide) ?_
    obtain rfl := Option.some.inj h
    exact hr_sub _ rfl (J4)
  rw [if_neg c96] at h
  refine hr_tableD hC 227 dX21_checkStatement_6 (ks := [20, 21, 22, 23, 24, 25, 26, 27, 28, 33]) (hc_l1 (hc_ne c87 rfl) (hc_l1 (hc_ne c88 rfl) (hc_l1 (hc_ne c89 rfl) (hc_l1 (hc_ne c90 rfl) (hc_l1 (hc_ne c91 rfl) (hc_l1 (hc_ne c92 rfl) (hc_l1 (hc_ne c93 rfl) (hc_l1 (hc_ne c94 rfl) (hc_l1 (hc_ne c95 rfl) (hc_l1 (hc_ne c96 rfl) hc_l0)))))))))) (by decide) (by decide) (by decide) ?_
  refine hr_aload_n hC dX21_checkStatement_227 rfl ?_
  refine hr_gI hC F23_49 dX21_checkStatement_228 q2890 ?_
  obtain ⟨r8, e9, h⟩ := hx_bind h
  have J10 : hc_At hc_V0 E 3 X 257 [(0, .ref (E.2.1 23)), (1, .int x1)] [.int r8] σ am [] := by
    refine hr_istore_n hC dX21_checkStatement_257 (by decide) ?_
    refine hr_iload_n hC dX21_checkStatement_258 rfl ?_
    refine hr_if_ne (x := _) hC 274 dX21_checkStatement_259 (by decide) (fun c18 => ?_) (fun c18 => ?_)
    · rw [if_neg c18] at h
      obtain rfl := Option.some.inj h
      exact hr_sub _ rfl (J4)
    · rw [if_pos c18] at h
      refine hr_aload_n hC dX21_checkStatement_262 rfl ?_
      refine hr_bipush (v := 9) hC dX21_checkStatement_263 rfl ?_
      refine hr_aload_n hC dX21_checkStatement_265 rfl ?_
      refine hr_gA hC F23_19 rfl dX21_checkStatement_266 q2861 ?_
      refine hr_iload_n hC dX21_checkStatement_269 rfl ?_
      obtain ⟨c19, h⟩ := hk_ok h
      refine hs_iald hC A23_19 c19 dX21_checkStatement_270 ?_
      obtain ⟨r20, e21, h⟩ := hx_bind h
      refine hs_callV0 hC 23 [_, _] _ dX21_checkStatement_271 q3398 q3400 qs236 q335 q3401 np_X21 rfl OB_23 pd_X21_bad (Nat.le_of_ble_eq_true rfl) hd1 (okX21_bad l E A (d - 1)  (by omega)  e21 am) rfl ?_
      obtain rfl := Option.some.inj h
      exact hr_sub _ rfl (J4)
  clear h
  have h := e9
  refine hr_if_gt (x := _) hC 252 dX21_checkStatement_231 (by decide) (fun c7 => ?_) (fun c7 => ?_)
  · rw [if_pos c7] at h
    refine hr_iconst (v := 1) hC dX21_checkStatement_252 rfl ?_
    refine hr_goto hC 257 dX21_checkStatement_253 (by decide) ?_
    obtain rfl := Option.some.inj h
    exact hr_sub _ rfl (J10)
  · rw [if_neg c7] at h
    refine hr_aload_n hC dX21_checkStatement_234 rfl ?_
    refine hr_gA hC F23_18 rfl dX21_checkStatement_235 q2860 ?_
    refine hr_iload_n hC dX21_checkStatement_238 rfl ?_
    obtain ⟨c12, h⟩ := hk_ok h
    refine hs_bald hC A23_18 c12 dX21_checkStatement_239 ?_
    refine hr_bipush (v := 31) hC dX21_checkStatement_240 rfl ?_
    refine hr_icmp_ne (x := _) hC 256 dX21_checkStatement_242 (by decide) (fun c14 => ?_) (fun c14 => ?_)
    · rw [if_neg c14] at h
      refine hr_iconst (v := 0) hC dX21_checkStatement_256 rfl ?_
      obtain rfl := Option.some.inj h
      exact hr_sub _ rfl (J10)
    · rw [if_pos c14] at h
      refine hr_aload_n hC dX21_checkStatement_245 rfl ?_
      refine hr_gI hC F23_50 dX21_checkStatement_246 q2891 ?_
      refine hr_if_le (x := _) hC 256 dX21_checkStatement_249 (by decide) (fun c16 => ?_) (fun c16 => ?_)
      · rw [if_pos c16] at h
        refine hr_iconst (v := 0) hC dX21_checkStatement_256 rfl ?_
        obtain rfl := Option.some.inj h
        exact hr_sub _ rfl (J10)
      · rw [if_neg c16] at h
        refine hr_iconst (v := 1) hC dX21_checkStatement_252 rfl ?_
        refine hr_goto hC 257 dX21_checkStatement_253 (by decide) ?_
        obtain rfl := Option.some.inj h
        exact hr_sub _ rfl (J10)
/-- HomeCompilerModel.checkBlock(I)V -/
def bd_X21_checkBlock (n : Nat) (k0 : Nat) (rec : Nat → List Int32 → hc_St → Option (Int32 × hc_St)) (x1 : Int32) (σ : hc_St) : Option (Int32 × hc_St) := hl (pI σ 23 42 ((gI σ 23 38))) fun σ1 => hk (inb x1 (gL σ1 23 21)) <| Option.bind (rec 0 [((gC σ1 23 21 x1))] σ1) fun r3 => Option.bind (fm_X21_leave ((gI σ 23 38)) ((gI σ 23 42)) r3.2) fun r7 => some (0, r7)
set_option maxRecDepth 20000 in
set_option maxHeartbeats 4000000 in
theorem okbX21_checkBlock (l : Launch) (E : hc_E) (A : Nat → Prop) (d : Nat) {kk : Nat} (n : Nat) (k0 : Nat) (rec : Nat → List Int32 → hc_St → Option (Int32 × hc_St)) (hD : kk + 2 * k0 + 17 ≤ d) (IH : ∀ (w : Nat) (a : List Int32) (σ : hc_St) (r : (Int32 × hc_St)), rec w a σ = some r → ∀ am, okg_X21_statements l E A (d - 1) am w a σ r) {x1 : Int32} {σ : hc_St} {r : (Int32 × hc_St)} (h : bd_X21_checkBlock n k0 rec x1 σ = some r) (am : Nat → Nat → Nat) : hc_M l hc_V0 yX21_checkBlock (ws_ yX21_checkBlock cX21_checkBlock 4 none) d E A [.ref (E.2.1 23), .int x1] am [] σ (.inl (none)) r.2 := by
  have hd1 : 1 ≤ d := by omega
  have hd8 : 9 ≤ d := by omega
  have hd12 : 12 ≤ d := by omega
  refine hc_enter2 (own := RX21) [(0, .ref (E.2.1 23)), (1, .int x1)] pl_X21 rfl hc_V0_st hc_G0_nd rfl (Nat.le_of_ble_eq_true rfl) (fun X hC hem => ?_)
  unfold bd_X21_checkBlock at h
  refine hr_aload_n hC dX21_checkBlock_0 rfl ?_
  refine hr_gI hC F23_38 dX21_checkBlock_1 q2879 ?_
  refine hr_istore_n hC dX21_checkBlock_4 (by decide) ?_
  refine hr_aload_n hC dX21_checkBlock_5 rfl ?_
  refine hr_gI hC F23_42 dX21_checkBlock_6 q2883 ?_
  refine hr_istore_n hC dX21_checkBlock_9 (by decide) ?_
  refine hr_aload_n hC dX21_checkBlock_10 rfl ?_
  refine hr_aload_n hC dX21_checkBlock_11 rfl ?_
  refine hr_gI hC F23_38 dX21_checkBlock_12 q2879 ?_
  obtain ⟨σ1, hσ1, h⟩ := hl_ok h
  refine hr_pI hC F23_42 PX21_42 dX21_checkBlock_15 q2883 ?_
  rw [← hσ1]
  refine hr_aload_n hC dX21_checkBlock_18 rfl ?_
  refine hr_aload_n hC dX21_checkBlock_19 rfl ?_
  refine hr_gA hC F23_21 rfl dX21_checkBlock_20 q2863 ?_
  refine hr_iload_n hC dX21_checkBlock_23 rfl ?_
  obtain ⟨c2, h⟩ := hk_ok h
  refine hs_iald hC A23_21 c2 dX21_checkBlock_24 ?_
  obtain ⟨r3, e4, h⟩ := hx_bind h
  refine hs_callV0 hC 23 [_] _ dX21_checkBlock_25 q3422 q3424 qs242 q335 q3425 np_X21 rfl OB_23 pd_X21_statements (Nat.le_of_ble_eq_true rfl) hd1 (IH _ _ _ _ e4 am) rfl ?_
  refine hr_aload_n hC dX21_checkBlock_28 rfl ?_
  refine hr_iload_n hC dX21_checkBlock_29 rfl ?_
  refine hr_iload_n hC dX21_checkBlock_30 rfl ?_
  obtain ⟨r7, e8, h⟩ := hx_bind h
  refine hs_callV0 hC 23 [_, _] _ dX21_checkBlock_31 q3434 q3436 qs245 q335 q3437 np_X21 rfl OB_23 pd_X21_leave (Nat.le_of_ble_eq_true rfl) hd1 (okX21_leave l E A (d - 1)  (by omega)  e8 am) rfl ?_
  obtain rfl := Option.some.inj h
  exact hr_vret hC dX21_checkBlock_34
/-- HomeCompilerModel.checkBody(I)V -/
def bd_X21_checkBody (n : Nat) (k0 : Nat) (rec : Nat → List Int32 → hc_St → Option (Int32 × hc_St)) (x1 : Int32) (σ : hc_St) : Option (Int32 × hc_St) := hl (pI σ 23 49 ((((gI σ 23 49)) + 1))) fun σ1 => Option.bind (rec 1 [x1] σ1) fun r2 => hl (pI r2.2 23 49 ((((gI r2.2 23 49)) - 1))) fun σ6 => some (0, σ6)
set_option maxRecDepth 20000 in
set_option maxHeartbeats 4000000 in
theorem okbX21_checkBody (l : Launch) (E : hc_E) (A : Nat → Prop) (d : Nat) {kk : Nat} (n : Nat) (k0 : Nat) (rec : Nat → List Int32 → hc_St → Option (Int32 × hc_St)) (hD : kk + 2 * k0 + 17 ≤ d) (IH : ∀ (w : Nat) (a : List Int32) (σ : hc_St) (r : (Int32 × hc_St)), rec w a σ = some r → ∀ am, okg_X21_statements l E A (d - 1) am w a σ r) {x1 : Int32} {σ : hc_St} {r : (Int32 × hc_St)} (h : bd_X21_checkBody n k0 rec x1 σ = some r) (am : Nat → Nat → Nat) : hc_M l hc_V0 yX21_checkBody (ws_ yX21_checkBody cX21_checkBody 2 none) d E A [.ref (E.2.1 23), .int x1] am [] σ (.inl (none)) r.2 := by
  have hd1 : 1 ≤ d := by omega
  have hd8 : 9 ≤ d := by omega
  have hd12 : 12 ≤ d := by omega
  refine hc_enter2 (own := RX21) [(0, .ref (E.2.1 23)), (1, .int x1)] pl_X21 rfl hc_V0_st hc_G0_nd rfl (Nat.le_of_ble_eq_true rfl) (fun X hC hem => ?_)
  unfold bd_X21_checkBody at h
  refine hr_aload_n hC dX21_checkBody_0 rfl ?_
  refine hr_dup hC dX21_checkBody_1 rfl ?_
  refine hr_gI hC F23_49 dX21_checkBody_2 q2890 ?_
  refine hr_iconst (v := 1) hC dX21_checkBody_5 rfl ?_
  refine hr_iadd hC dX21_checkBody_6 ?_
  obtain ⟨σ1, hσ1, h⟩ := hl_ok h
  refine hr_pI hC F23_49 PX21_49 dX21_checkBody_7 q2890 ?_
  rw [← hσ1]
  refine hr_aload_n hC dX21_checkBody_10 rfl ?_
  refine hr_iload_n hC dX21_checkBody_11 rfl ?_
  obtain ⟨r2, e3, h⟩ := hx_bind h
  refine hs_callV0 hC 23 [_] _ dX21_checkBody_12 q3426 q3428 qs243 q335 q3429 np_X21 rfl OB_23 pd_X21_checkStatement (Nat.le_of_ble_eq_true rfl) hd1 (IH _ _ _ _ e3 am) rfl ?_
  refine hr_aload_n hC dX21_checkBody_15 rfl ?_
  refine hr_dup hC dX21_checkBody_16 rfl ?_
  refine hr_gI hC F23_49 dX21_checkBody_17 q2890 ?_
  refine hr_iconst (v := 1) hC dX21_checkBody_20 rfl ?_
  refine hr_isub hC dX21_checkBody_21 ?_
  obtain ⟨σ6, hσ6, h⟩ := hl_ok h
  refine hr_pI hC F23_49 PX21_49 dX21_checkBody_22 q2890 ?_
  rw [← hσ6]
  obtain rfl := Option.some.inj h
  exact hr_vret hC dX21_checkBody_25
/-- HomeCompilerModel.checkFor(I)V -/
def bd_X21_checkFor (n : Nat) (k0 : Nat) (rec : Nat → List Int32 → hc_St → Option (Int32 × hc_St)) (x1 : Int32) (σ : hc_St) : Option (Int32 × hc_St) := hl (pI σ 23 42 ((gI σ 23 38))) fun σ1 => hk (inb x1 (gL σ1 23 21)) <| Option.bind (α := hc_St) (if (gC σ1 23 21 x1) < 0 then (some (σ1)) else (hk (inb x1 (gL σ1 23 21)) <| Option.bind (rec 1 [((gC σ1 23 21 x1))] σ1) fun r10 => some (r10.2))) fun r5 => hk (inb x1 (gL r5 23 22)) <| Option.bind (α := hc_St) (if (gC r5 23 22 x1) < 0 then (some (r5)) else (hk (inb x1 (gL r5 23 22)) <| Option.bind (fm_X21_check n k0 ((gC r5 23 22 x1)) 1 r5) fun r22 => some (r22.2))) fun r17 => hk (inb x1 (gL r17 23 23)) <| Option.bind (α := hc_St) (if (gC r17 23 23 x1) < 0 then (some (r17)) else (hk (inb x1 (gL r17 23 23)) <| Option.bind (fm_X21_checkAlone n k0 ((gC r17 23 23 x1)) r17) fun r34 => some (r34))) fun r29 => hk (inb x1 (gL r29 23 24)) <| Option.bind (rec 3 [((gC r29 23 24 x1))] r29) fun r39 => Option.bind (fm_X21_leave ((gI σ 23 38)) ((gI σ 23 42)) r39.2) fun r43 => some (0, r43)
set_option maxRecDepth 20000 in
set_option maxHeartbeats 4000000 in
theorem okbX21_checkFor (l : Launch) (E : hc_E) (A : Nat → Prop) (d : Nat) {kk : Nat} (n : Nat) (k0 : Nat) (rec : Nat → List Int32 → hc_St → Option (Int32 × hc_St)) (hD : kk + 2 * k0 + 17 ≤ d) (IH : ∀ (w : Nat) (a : List Int32) (σ : hc_St) (r : (Int32 × hc_St)), rec w a σ = some r → ∀ am, okg_X21_statements l E A (d - 1) am w a σ r) {x1 : Int32} {σ : hc_St} {r : (Int32 × hc_St)} (h : bd_X21_checkFor n k0 rec x1 σ = some r) (am : Nat → Nat → Nat) : hc_M l hc_V0 yX21_checkFor (ws_ yX21_checkFor cX21_checkFor 4 none) d E A [.ref (E.2.1 23), .int x1] am [] σ (.inl (none)) r.2 := by
  have hd1 : 1 ≤ d := by omega
  have hd8 : 9 ≤ d := by omega
  have hd12 : 12 ≤ d := by omega
  refine hc_enter2 (own := RX21) [(0, .ref (E.2.1 23)), (1, .int x1)] pl_X21 rfl hc_V0_st hc_G0_nd rfl (Nat.le_of_ble_eq_true rfl) (fun X hC hem => ?_)
  unfold bd_X21_checkFor at h
  refine hr_aload_n hC dX21_checkFor_0 rfl ?_
  refine hr_gI hC F23_38 dX21_checkFor_1 q2879 ?_
  refine hr_istore_n hC dX21_checkFor_4 (by decide) ?_
  refine hr_aload_n hC dX21_checkFor_5 rfl ?_
  refine hr_gI hC F23_42 dX21_checkFor_6 q2883 ?_
  refine hr_istore_n hC dX21_checkFor_9 (by decide) ?_
  refine hr_aload_n hC dX21_checkFor_10 rfl ?_
  refine hr_aload_n hC dX21_checkFor_11 rfl ?_
  refine hr_gI hC F23_38 dX21_checkFor_12 q2879 ?_
  obtain ⟨σ1, hσ1, h⟩ := hl_ok h
  refine hr_pI hC F23_42 PX21_42 dX21_checkFor_15 q2883 ?_
  rw [← hσ1]
  refine hr_aload_n hC dX21_checkFor_18 rfl ?_
  refine hr_gA hC F23_21 rfl dX21_checkFor_19 q2863 ?_
  refine hr_iload_n hC dX21_checkFor_22 rfl ?_
  obtain ⟨c2, h⟩ := hk_ok h
  refine hs_iald hC A23_21 c2 dX21_checkFor_23 ?_
  obtain ⟨r5, e6, h⟩ := hx_bind h
  have J7 : hc_At hc_V0 E 4 X 37 [(0, .ref (E.2.1 23)), (1, .int x1), (2, .int (gI σ 23 38)), (3, .int (gI σ 23 42))] [] r5 am [] := by
    refine hr_aload_n hC dX21_checkFor_37 rfl ?_
    refine hr_gA hC F23_22 rfl dX21_checkFor_38 q2864 ?_
    refine hr_iload_n hC dX21_checkFor_41 rfl ?_
    obtain ⟨c14, h⟩ := hk_ok h
    refine hs_iald hC A23_22 c14 dX21_checkFor_42 ?_
    obtain ⟨r17, e18, h⟩ := hx_bind h
    have J19 : hc_At hc_V0 E 4 X 58 [(0, .ref (E.2.1 23)), (1, .int x1), (2, .int (gI σ 23 38)), (3, .int (gI σ 23 42))] [] r17 am [] := by
      refine hr_aload_n hC dX21_checkFor_58 rfl ?_
      refine hr_gA hC F23_23 rfl dX21_checkFor_59 q2865 ?_
      refine hr_iload_n hC dX21_checkFor_62 rfl ?_
      obtain ⟨c26, h⟩ := hk_ok h
      refine hs_iald hC A23_23 c26 dX21_checkFor_63 ?_
      obtain ⟨r29, e30, h⟩ := hx_bind h
      have J31 : hc_At hc_V0 E 4 X 77 [(0, .ref (E.2.1 23)), (1, .int x1), (2, .int (gI σ 23 38)), (3, .int (gI σ 23 42))] [] r29 am [] := by
        refine hr_aload_n hC dX21_checkFor_77 rfl ?_
        refine hr_aload_n hC dX21_checkFor_78 rfl ?_
        refine hr_gA hC F23_24 rfl dX21_checkFor_79 q2866 ?_
        refine hr_iload_n hC dX21_checkFor_82 rfl ?_
        obtain ⟨c38, h⟩ := hk_ok h
        refine hs_iald hC A23_24 c38 dX21_checkFor_83 ?_
        obtain ⟨r39, e40, h⟩ := hx_bind h
        refine hs_callV0 hC 23 [_] _ dX21_checkFor_84 q3502 q3504 qs262 q335 q3505 np_X21 rfl OB_23 pd_X21_checkBody (Nat.le_of_ble_eq_true rfl) hd1 (IH _ _ _ _ e40 am) rfl ?_
        refine hr_aload_n hC dX21_checkFor_87 rfl ?_
        refine hr_iload_n hC dX21_checkFor_88 rfl ?_
        refine hr_iload_n hC dX21_checkFor_89 rfl ?_
        obtain ⟨r43, e44, h⟩ := hx_bind h
        refine hs_callV0 hC 23 [_, _] _ dX21_checkFor_90 q3434 q3436 qs245 q335 q3437 np_X21 rfl OB_23 pd_X21_leave (Nat.le_of_ble_eq_true rfl) hd1 (okX21_leave l E A (d - 1)  (by omega)  e44 am) rfl ?_
        obtain rfl := Option.some.inj h
        exact hr_vret hC dX21_checkFor_93
      clear h
      have h := e30
      refine hr_if_lt (x := _) hC 77 dX21_checkFor_64 (by decide) (fun c28 => ?_) (fun c28 => ?_)
      · rw [if_pos c28] at h
        obtain rfl := Option.some.inj h
        exact hr_sub _ rfl (J31)
      · rw [if_neg c28] at h
        refine hr_aload_n hC dX21_checkFor_67 rfl ?_
        refine hr_aload_n hC dX21_checkFor_68 rfl ?_
        refine hr_gA hC F23_23 rfl dX21_checkFor_69 q2865 ?_
        refine hr_iload_n hC dX21_checkFor_72 rfl ?_
        obtain ⟨c33, h⟩ := hk_ok h
        refine hs_iald hC A23_23 c33 dX21_checkFor_73 ?_
        obtain ⟨r34, e35, h⟩ := hx_bind h
        refine hs_callV0 hC 23 [_] _ dX21_checkFor_74 q3438 q3440 qs246 q335 q3441 np_X21 rfl OB_23 pd_X21_checkAlone (Nat.le_of_ble_eq_true rfl) hd1 (okX21_checkAlone l E A (d - 1) n k0 (by omega)  e35 am) rfl ?_
        obtain rfl := Option.some.inj h
        exact hr_sub _ rfl (J31)
    clear h
    have h := e18
    refine hr_if_lt (x := _) hC 58 dX21_checkFor_43 (by decide) (fun c16 => ?_) (fun c16 => ?_)
    · rw [if_pos c16] at h
      obtain rfl := Option.some.inj h
      exact hr_sub _ rfl (J19)
    · rw [if_neg c16] at h
      refine hr_aload_n hC dX21_checkFor_46 rfl ?_
      refine hr_aload_n hC dX21_checkFor_47 rfl ?_
      refine hr_gA hC F23_22 rfl dX21_checkFor_48 q2864 ?_
      refine hr_iload_n hC dX21_checkFor_51 rfl ?_
      obtain ⟨c21, h⟩ := hk_ok h
      refine hs_iald hC A23_22 c21 dX21_checkFor_52 ?_
      refine hr_iconst (v := 1) hC dX21_checkFor_53 rfl ?_
      obtain ⟨r22, e23, h⟩ := hx_bind h
      refine hs_callV0 hC 23 [_, _] _ dX21_checkFor_54 q3442 q3444 qs247 q335 q3445 np_X21 rfl OB_23 pd_X21_check (Nat.le_of_ble_eq_true rfl) hd1 (okX21_check l E A (d - 1) n k0 (by omega)  e23 am) rfl ?_
      refine hr_pop hC dX21_checkFor_57 rfl ?_
      obtain rfl := Option.some.inj h
      exact hr_sub _ rfl (J19)
  clear h
  have h := e6
  refine hr_if_lt (x := _) hC 37 dX21_checkFor_24 (by decide) (fun c4 => ?_) (fun c4 => ?_)
  · rw [if_pos c4] at h
    obtain rfl := Option.some.inj h
    exact hr_sub _ rfl (J7)
  · rw [if_neg c4] at h
    refine hr_aload_n hC dX21_checkFor_27 rfl ?_
    refine hr_aload_n hC dX21_checkFor_28 rfl ?_
    refine hr_gA hC F23_21 rfl dX21_checkFor_29 q2863 ?_
    refine hr_iload_n hC dX21_checkFor_32 rfl ?_
    obtain ⟨c9, h⟩ := hk_ok h
    refine hs_iald hC A23_21 c9 dX21_checkFor_33 ?_
    obtain ⟨r10, e11, h⟩ := hx_bind h
    refine hs_callV0 hC 23 [_] _ dX21_checkFor_34 q3426 q3428 qs243 q335 q3429 np_X21 rfl OB_23 pd_X21_checkStatement (Nat.le_of_ble_eq_true rfl) hd1 (IH _ _ _ _ e11 am) rfl ?_
    obtain rfl := Option.some.inj h
    exact hr_sub _ rfl (J7)
def lp_X21_checkSwitch_113 (n : Nat) (k0 : Nat) (rec : Nat → List Int32 → hc_St → Option (Int32 × hc_St)) : Nat → Int32 → Int32 → Int32 → Int32 → Int32 → Int32 → hc_St → Option (hc_St)
  | 0, _, _, _, _, _, _, _ => none
  | m + 1, y1, y2, y3, y4, y5, y6, σ => if y6 = y5 then (some (σ)) else (hk (inb y6 (gL σ 23 18)) <| Option.bind (α := hc_St) (if (gC σ 23 18 y6).toInt8.toInt32 = 29 then (hk (inb y6 (gL σ 23 26)) <| if (gC σ 23 26 y6) = 1 then (hk (inb y5 (gL σ 23 26)) <| if (gC σ 23 26 y5) = 1 then (hk (inb y6 (gL σ 23 22)) <| hk (inb y5 (gL σ 23 22)) <| if (gC σ 23 22 y6) = (gC σ 23 22 y5) then (hk (inb y5 (gL σ 23 19)) <| Option.bind (fm_X21_bad 10 ((gC σ 23 19 y5)) σ) fun r69 => some (r69)) else (some (σ))) else (some (σ))) else (some (σ))) else (some (σ))) fun r54 => hk (inb y6 (gL r54 23 25)) <| lp_X21_checkSwitch_113 n k0 rec m y1 y2 y3 y4 y5 ((gC r54 23 25 y6)) r54)
def lp_X21_checkSwitch_51 (n : Nat) (k0 : Nat) (rec : Nat → List Int32 → hc_St → Option (Int32 × hc_St)) : Nat → Int32 → Int32 → Int32 → Int32 → Int32 → hc_St → Option (hc_St)
  | 0, _, _, _, _, _, _ => none
  | m + 1, y1, y2, y3, y4, y5, σ => if y5 < 0 then (some (σ)) else (hk (inb y5 (gL σ 23 18)) <| Option.bind (α := hc_St × Int32) (if (gC σ 23 18 y5).toInt8.toInt32 = 29 then (hk (inb y5 (gL σ 23 21)) <| Option.bind (fm_X21_checkConstant n k0 ((gC σ 23 21 y5)) σ) fun r37 => hl (α := Int32) ((if r37.1 = 0 then 0 else 1)) fun v43 => hk (inb y5 (gL r37.2 23 26)) <| hl (pC r37.2 23 26 y5 v43) fun σ45 => hk (inb y5 (gL σ45 23 22)) <| hl (pC σ45 23 22 y5 ((gI σ45 23 62))) fun σ47 => hk (inb y1 (gL σ47 23 22)) <| Option.bind (lp_X21_checkSwitch_113 n k0 rec n y1 y2 y3 y4 y5 ((gC σ47 23 22 y1)) σ47) fun r74 => some (r74, y4)) else (hk (inb y5 (gL σ 23 18)) <| if (gC σ 23 18 y5).toInt8.toInt32 = 30 then (Option.bind (α := hc_St) (if y4 = 0 then (some (σ)) else (hk (inb y5 (gL σ 23 19)) <| Option.bind (fm_X21_bad 10 ((gC σ 23 19 y5)) σ) fun r32 => some (r32))) fun r27 => some (r27, 1)) else (Option.bind (rec 1 [y5] σ) fun r21 => some (r21.2, y4)))) fun r14 => hk (inb y5 (gL r14.1 23 25)) <| lp_X21_checkSwitch_51 n k0 rec m y1 y2 y3 r14.2 ((gC r14.1 23 25 y5)) r14.1)
/-- HomeCompilerModel.checkSwitch(I)V -/
def bd_X21_checkSwitch (n : Nat) (k0 : Nat) (rec : Nat → List Int32 → hc_St → Option (Int32 × hc_St)) (x1 : Int32) (σ : hc_St) : Option (Int32 × hc_St) := hk (inb x1 (gL σ 23 21)) <| Option.bind (fm_X21_check n k0 ((gC σ 23 21 x1)) 1 σ) fun r2 => hl (pI r2.2 23 42 ((gI r2.2 23 38))) fun σ6 => hl (pI σ6 23 50 ((((gI σ6 23 50)) + 1))) fun σ7 => hk (inb x1 (gL σ7 23 22)) <| Option.bind (lp_X21_checkSwitch_51 n k0 rec n x1 ((gI r2.2 23 38)) ((gI r2.2 23 42)) 0 ((gC σ7 23 22 x1)) σ7) fun r83 => hl (pI r83 23 50 ((((gI r83 23 50)) - 1))) fun σ88 => Option.bind (fm_X21_leave ((gI r2.2 23 38)) ((gI r2.2 23 42)) σ88) fun r89 => some (0, r89)
set_option maxRecDepth 20000 in
set_option maxHeartbeats 4000000 in
theorem ll_X21_checkSwitch_113 {l : Launch} {E : hc_E} {A : Nat → Prop} {am : Nat → Nat → Nat} {d : Nat} {kk : Nat} {X : hc_X} (n : Nat) (k0 : Nat) (rec : Nat → List Int32 → hc_St → Option (Int32 × hc_St)) (hD : kk + 2 * k0 + 17 ≤ d) (hem : X.2.2.2.2.2.2.2.2.2.1.exceptionTable.isEmpty = true) (IH : ∀ (w : Nat) (a : List Int32) (σ : hc_St) (r : (Int32 × hc_St)), rec w a σ = some r → ∀ am, okg_X21_statements l E A (d - 1) am w a σ r) {oc : hc_Oc} {σe : hc_St} (hC : hc_C hc_V0 E cX21_checkSwitch 7 RX21 none d oc σe (l, A, am, []) X) : ∀ (m : Nat) (σ : hc_St) (y1 : Int32) (y2 : Int32) (y3 : Int32) (y4 : Int32) (y5 : Int32) (y6 : Int32) (rl : hc_St) (am1 : Nat → Nat → Nat), lp_X21_checkSwitch_113 n k0 rec m y1 y2 y3 y4 y5 y6 σ = some rl → (hc_At hc_V0 E 7 X 196 [(0, .ref (E.2.1 23)), (1, .int y1), (2, .int y2), (3, .int y3), (4, .int y4), (5, .int y5)] [] rl am1 []) → hc_At hc_V0 E 7 X 113 [(0, .ref (E.2.1 23)), (1, .int y1), (2, .int y2), (3, .int y3), (4, .int y4), (5, .int y5), (6, .int y6)] [] σ am1 [] := by
  have hd1 : 1 ≤ d := by omega
  have hd8 : 9 ≤ d := by omega
  have hd12 : 12 ≤ d := by omega
  intro m
  induction m with
  | zero =>
    intro σ y1 y2 y3 y4 y5 y6 rl am1 h
    cases h
  | succ m ih =>
    intro σ y1 y2 y3 y4 y5 y6 rl am1 h JX
    rw [lp_X21_checkSwitch_113] at h
    refine hr_iload hC dX21_checkSwitch_113 rfl ?_
    refine hr_iload hC dX21_checkSwitch_115 rfl ?_
    refine hr_icmp_eq (x := _) hC 196 dX21_checkSwitch_117 (by decide) (fun c50 => ?_) (fun c50 => ?_)
    · rw [if_pos c50] at h
      obtain rfl := Option.some.inj h
      exact hr_sub _ rfl (JX)
    · rw [if_neg c50] at h
      refine hr_aload_n hC dX21_checkSwitch_120 rfl ?_
      refine hr_gA hC F23_18 rfl dX21_checkSwitch_121 q2860 ?_
      refine hr_iload hC dX21_checkSwitch_124 rfl ?_
      obtain ⟨c51, h⟩ := hk_ok h
      refine hs_bald hC A23_18 c51 dX21_checkSwitch_126 ?_
      refine hr_bipush (v := 29) hC dX21_checkSwitch_127 rfl ?_
      obtain ⟨r54, e55, h⟩ := hx_bind h
      have J56 : hc_At hc_V0 E 7 X 184 [(0, .ref (E.2.1 23)), (1, .int y1), (2, .int y2), (3, .int y3), (4, .int y4), (5, .int y5), (6, .int y6)] [] r54 am1 [] := by
        refine hr_aload_n hC dX21_checkSwitch_184 rfl ?_
        refine hr_gA hC F23_25 rfl dX21_checkSwitch_185 q2867 ?_
        refine hr_iload hC dX21_checkSwitch_188 rfl ?_
        obtain ⟨c73, h⟩ := hk_ok h
        refine hs_iald hC A23_25 c73 dX21_checkSwitch_190 ?_
        refine hr_istore hC dX21_checkSwitch_191 (by decide) ?_
        refine hr_goto hC 113 dX21_checkSwitch_193 (by decide) ?_
        exact hr_sub _ rfl (ih _ _ _ _ _ _ _ _ am1 h JX)
      clear h
      have h := e55
      refine hr_icmp_ne (x := _) hC 184 dX21_checkSwitch_129 (by decide) (fun c53 => ?_) (fun c53 => ?_)
      · rw [if_neg c53] at h
        obtain rfl := Option.some.inj h
        exact hr_sub _ rfl (J56)
      · rw [if_pos c53] at h
        refine hr_aload_n hC dX21_checkSwitch_132 rfl ?_
        refine hr_gA hC F23_26 rfl dX21_checkSwitch_133 q2868 ?_
        refine hr_iload hC dX21_checkSwitch_136 rfl ?_
        obtain ⟨c58, h⟩ := hk_ok h
        refine hs_iald hC A23_26 c58 dX21_checkSwitch_138 ?_
        refine hr_iconst (v := 1) hC dX21_checkSwitch_139 rfl ?_
        refine hr_icmp_ne (x := _) hC 184 dX21_checkSwitch_140 (by decide) (fun c60 => ?_) (fun c60 => ?_)
        · rw [if_neg c60] at h
          obtain rfl := Option.some.inj h
          exact hr_sub _ rfl (J56)
        · rw [if_pos c60] at h
          refine hr_aload_n hC dX21_checkSwitch_143 rfl ?_
          refine hr_gA hC F23_26 rfl dX21_checkSwitch_144 q2868 ?_
          refine hr_iload hC dX21_checkSwitch_147 rfl ?_
          obtain ⟨c61, h⟩ := hk_ok h
          refine hs_iald hC A23_26 c61 dX21_checkSwitch_149 ?_
          refine hr_iconst (v := 1) hC dX21_checkSwitch_150 rfl ?_
          refine hr_icmp_ne (x := _) hC 184 dX21_checkSwitch_151 (by decide) (fun c63 => ?_) (fun c63 => ?_)
          · rw [if_neg c63] at h
            obtain rfl := Option.some.inj h
            exact hr_sub _ rfl (J56)
          · rw [if_pos c63] at h
            refine hr_aload_n hC dX21_checkSwitch_154 rfl ?_
            refine hr_gA hC F23_22 rfl dX21_checkSwitch_155 q2864 ?_
            refine hr_iload hC dX21_checkSwitch_158 rfl ?_
            obtain ⟨c64, h⟩ := hk_ok h
            refine hs_iald hC A23_22 c64 dX21_checkSwitch_160 ?_
            refine hr_aload_n hC dX21_checkSwitch_161 rfl ?_
            refine hr_gA hC F23_22 rfl dX21_checkSwitch_162 q2864 ?_
            refine hr_iload hC dX21_checkSwitch_165 rfl ?_
            obtain ⟨c65, h⟩ := hk_ok h
            refine hs_iald hC A23_22 c65 dX21_checkSwitch_167 ?_
            refine hr_icmp_ne (x := _) hC 184 dX21_checkSwitch_168 (by decide) (fun c67 => ?_) (fun c67 => ?_)
            · rw [if_neg c67] at h
              obtain rfl := Option.some.inj h
              exact hr_sub _ rfl (J56)
            · rw [if_pos c67] at h
              refine hr_aload_n hC dX21_checkSwitch_171 rfl ?_
              refine hr_bipush (v := 10) hC dX21_checkSwitch_172 rfl ?_
              refine hr_aload_n hC dX21_checkSwitch_174 rfl ?_
              refine hr_gA hC F23_19 rfl dX21_checkSwitch_175 q2861 ?_
              refine hr_iload hC dX21_checkSwitch_178 rfl ?_
              obtain ⟨c68, h⟩ := hk_ok h
              refine hs_iald hC A23_19 c68 dX21_checkSwitch_180 ?_
              obtain ⟨r69, e70, h⟩ := hx_bind h
              refine hs_callV0 hC 23 [_, _] _ dX21_checkSwitch_181 q3398 q3400 qs236 q335 q3401 np_X21 rfl OB_23 pd_X21_bad (Nat.le_of_ble_eq_true rfl) hd1 (okX21_bad l E A (d - 1)  (by omega)  e70 am1) rfl ?_
              obtain rfl := Option.some.inj h
              exact hr_sub _ rfl (J56)
set_option maxRecDepth 20000 in
set_option maxHeartbeats 4000000 in
theorem ll_X21_checkSwitch_51 {l : Launch} {E : hc_E} {A : Nat → Prop} {am : Nat → Nat → Nat} {d : Nat} {kk : Nat} {X : hc_X} (n : Nat) (k0 : Nat) (rec : Nat → List Int32 → hc_St → Option (Int32 × hc_St)) (hD : kk + 2 * k0 + 17 ≤ d) (hem : X.2.2.2.2.2.2.2.2.2.1.exceptionTable.isEmpty = true) (IH : ∀ (w : Nat) (a : List Int32) (σ : hc_St) (r : (Int32 × hc_St)), rec w a σ = some r → ∀ am, okg_X21_statements l E A (d - 1) am w a σ r) {oc : hc_Oc} {σe : hc_St} (hC : hc_C hc_V0 E cX21_checkSwitch 7 RX21 none d oc σe (l, A, am, []) X) : ∀ (m : Nat) (σ : hc_St) (y1 : Int32) (y2 : Int32) (y3 : Int32) (y4 : Int32) (y5 : Int32) (rl : hc_St) (am1 : Nat → Nat → Nat), lp_X21_checkSwitch_51 n k0 rec m y1 y2 y3 y4 y5 σ = some rl → (hc_At hc_V0 E 7 X 253 [(0, .ref (E.2.1 23)), (2, .int y2), (3, .int y3)] [] rl am1 []) → hc_At hc_V0 E 7 X 51 [(0, .ref (E.2.1 23)), (1, .int y1), (2, .int y2), (3, .int y3), (4, .int y4), (5, .int y5)] [] σ am1 [] := by
  have hd1 : 1 ≤ d := by omega
  have hd8 : 9 ≤ d := by omega
  have hd12 : 12 ≤ d := by omega
  intro m
  induction m with
  | zero =>
    intro σ y1 y2 y3 y4 y5 rl am1 h
    cases h
  | succ m ih =>
    intro σ y1 y2 y3 y4 y5 rl am1 h JX
    rw [lp_X21_checkSwitch_51] at h
    refine hr_iload hC dX21_checkSwitch_51 rfl ?_
    refine hr_if_lt (x := _) hC 253 dX21_checkSwitch_53 (by decide) (fun c10 => ?_) (fun c10 => ?_)
    · rw [if_pos c10] at h
      obtain rfl := Option.some.inj h
      exact hr_sub _ rfl (JX)
    · rw [if_neg c10] at h
      refine hr_aload_n hC dX21_checkSwitch_56 rfl ?_
      refine hr_gA hC F23_18 rfl dX21_checkSwitch_57 q2860 ?_
      refine hr_iload hC dX21_checkSwitch_60 rfl ?_
      obtain ⟨c11, h⟩ := hk_ok h
      refine hs_bald hC A23_18 c11 dX21_checkSwitch_62 ?_
      refine hr_bipush (v := 29) hC dX21_checkSwitch_63 rfl ?_
      obtain ⟨r14, e15, h⟩ := hx_bind h
      have J16 : hc_At hc_V0 E 7 X 241 [(0, .ref (E.2.1 23)), (1, .int y1), (2, .int y2), (3, .int y3), (4, .int r14.2), (5, .int y5)] [] r14.1 am1 [] := by
        refine hr_aload_n hC dX21_checkSwitch_241 rfl ?_
        refine hr_gA hC F23_25 rfl dX21_checkSwitch_242 q2867 ?_
        refine hr_iload hC dX21_checkSwitch_245 rfl ?_
        obtain ⟨c82, h⟩ := hk_ok h
        refine hs_iald hC A23_25 c82 dX21_checkSwitch_247 ?_
        refine hr_istore hC dX21_checkSwitch_248 (by decide) ?_
        refine hr_goto hC 51 dX21_checkSwitch_250 (by decide) ?_
        exact hr_sub _ rfl (ih _ _ _ _ _ _ _ am1 h JX)
      clear h
      have h := e15
      refine hr_icmp_ne (x := _) hC 199 dX21_checkSwitch_65 (by decide) (fun c13 => ?_) (fun c13 => ?_)
      · rw [if_neg c13] at h
        refine hr_aload_n hC dX21_checkSwitch_199 rfl ?_
        refine hr_gA hC F23_18 rfl dX21_checkSwitch_200 q2860 ?_
        refine hr_iload hC dX21_checkSwitch_203 rfl ?_
        obtain ⟨c18, h⟩ := hk_ok h
        refine hs_bald hC A23_18 c18 dX21_checkSwitch_205 ?_
        refine hr_bipush (v := 30) hC dX21_checkSwitch_206 rfl ?_
        refine hr_icmp_ne (x := _) hC 235 dX21_checkSwitch_208 (by decide) (fun c20 => ?_) (fun c20 => ?_)
        · rw [if_neg c20] at h
          refine hr_aload_n hC dX21_checkSwitch_235 rfl ?_
          refine hr_iload hC dX21_checkSwitch_236 rfl ?_
          obtain ⟨r21, e22, h⟩ := hx_bind h
          refine hs_callV0 hC 23 [_] _ dX21_checkSwitch_238 q3426 q3428 qs243 q335 q3429 np_X21 rfl OB_23 pd_X21_checkStatement (Nat.le_of_ble_eq_true rfl) hd1 (IH _ _ _ _ e22 am1) rfl ?_
          obtain rfl := Option.some.inj h
          exact hr_sub _ rfl (J16)
        · rw [if_pos c20] at h
          refine hr_iload hC dX21_checkSwitch_211 rfl ?_
          obtain ⟨r27, e28, h⟩ := hx_bind h
          have J29 : hc_At hc_V0 E 7 X 229 [(0, .ref (E.2.1 23)), (1, .int y1), (2, .int y2), (3, .int y3), (5, .int y5)] [] r27 am1 [] := by
            refine hr_iconst (v := 1) hC dX21_checkSwitch_229 rfl ?_
            refine hr_istore hC dX21_checkSwitch_230 (by decide) ?_
            refine hr_goto hC 241 dX21_checkSwitch_232 (by decide) ?_
            obtain rfl := Option.some.inj h
            exact hr_sub _ rfl (J16)
          clear h
          have h := e28
          refine hr_if_eq (x := _) hC 229 dX21_checkSwitch_213 (by decide) (fun c26 => ?_) (fun c26 => ?_)
          · rw [if_pos c26] at h
            obtain rfl := Option.some.inj h
            exact hr_sub _ rfl (J29)
          · rw [if_neg c26] at h
            refine hr_aload_n hC dX21_checkSwitch_216 rfl ?_
            refine hr_bipush (v := 10) hC dX21_checkSwitch_217 rfl ?_
            refine hr_aload_n hC dX21_checkSwitch_219 rfl ?_
            refine hr_gA hC F23_19 rfl dX21_checkSwitch_220 q2861 ?_
            refine hr_iload hC dX21_checkSwitch_223 rfl ?_
            obtain ⟨c31, h⟩ := hk_ok h
            refine hs_iald hC A23_19 c31 dX21_checkSwitch_225 ?_
            obtain ⟨r32, e33, h⟩ := hx_bind h
            refine hs_callV0 hC 23 [_, _] _ dX21_checkSwitch_226 q3398 q3400 qs236 q335 q3401 np_X21 rfl OB_23 pd_X21_bad (Nat.le_of_ble_eq_true rfl) hd1 (okX21_bad l E A (d - 1)  (by omega)  e33 am1) rfl ?_
            obtain rfl := Option.some.inj h
            exact hr_sub _ rfl (J29)
      · rw [if_pos c13] at h
        refine hr_aload_n hC dX21_checkSwitch_68 rfl ?_
        refine hr_gA hC F23_26 rfl dX21_checkSwitch_69 q2868 ?_
        refine hr_iload hC dX21_checkSwitch_72 rfl ?_
        refine hr_aload_n hC dX21_checkSwitch_74 rfl ?_
        refine hr_aload_n hC dX21_checkSwitch_75 rfl ?_
        refine hr_gA hC F23_21 rfl dX21_checkSwitch_76 q2863 ?_
        refine hr_iload hC dX21_checkSwitch_79 rfl ?_
        obtain ⟨c36, h⟩ := hk_ok h
        refine hs_iald hC A23_21 c36 dX21_checkSwitch_81 ?_
        obtain ⟨r37, e38, h⟩ := hx_bind h
        refine hs_callV0 hC 23 [_] _ dX21_checkSwitch_82 q3462 q3464 qs252 q335 q3465 np_X21 rfl OB_23 pd_X21_checkConstant (Nat.le_of_ble_eq_true rfl) hd1 (okX21_checkConstant l E A (d - 1) n k0 (by omega)  e38 am1) rfl ?_
        obtain ⟨v43, hv43, h⟩ := hl_ok h
        have J79 : ∀ w80 : Int32, (if r37.1 = 0 then 0 else 1) = w80 → hc_At hc_V0 E 7 X 93 [(0, .ref (E.2.1 23)), (1, .int y1), (2, .int y2), (3, .int y3), (4, .int y4), (5, .int y5)] [.int w80, .int y5, .ref (am1 23 26)] r37.2 am1 [] := by
          intro w80 hw80
          obtain rfl := hv43.trans hw80
          obtain ⟨c44, h⟩ := hk_ok h
          obtain ⟨σ45, hσ45, h⟩ := hl_ok h
          refine hs_iast hC A23_26 c44 dX21_checkSwitch_93 ?_
          rw [← hσ45]
          refine hr_aload_n hC dX21_checkSwitch_94 rfl ?_
          refine hr_gA hC F23_22 rfl dX21_checkSwitch_95 q2864 ?_
          refine hr_iload hC dX21_checkSwitch_98 rfl ?_
          refine hr_aload_n hC dX21_checkSwitch_100 rfl ?_
          refine hr_gI hC F23_62 dX21_checkSwitch_101 q2903 ?_
          obtain ⟨c46, h⟩ := hk_ok h
          obtain ⟨σ47, hσ47, h⟩ := hl_ok h
          refine hs_iast hC A23_22 c46 dX21_checkSwitch_104 ?_
          rw [← hσ47]
          refine hr_aload_n hC dX21_checkSwitch_105 rfl ?_
          refine hr_gA hC F23_22 rfl dX21_checkSwitch_106 q2864 ?_
          refine hr_iload_n hC dX21_checkSwitch_109 rfl ?_
          obtain ⟨c48, h⟩ := hk_ok h
          refine hs_iald hC A23_22 c48 dX21_checkSwitch_110 ?_
          refine hr_istore hC dX21_checkSwitch_111 (by decide) ?_
          obtain ⟨r74, e75, h⟩ := hx_bind h
          refine hr_sub _ rfl (ll_X21_checkSwitch_113 n k0 rec hD hem IH hC n _ _ _ _ _ _ _ _ am1 e75 ?_)
          refine hr_goto hC 241 dX21_checkSwitch_196 (by decide) ?_
          obtain rfl := Option.some.inj h
          exact hr_sub _ rfl (J16)
        refine hr_if_eq (x := _) hC 92 dX21_checkSwitch_85 (by decide) (fun c81 => ?_) (fun c81 => ?_)
        · refine hr_iconst (v := 0) hC dX21_checkSwitch_92 rfl ?_
          exact hr_sub _ rfl (J79 _ (by first | (rw [if_pos c81]; done) | (simp only [if_pos c81]; done) | rfl))
        · refine hr_iconst (v := 1) hC dX21_checkSwitch_88 rfl ?_
          refine hr_goto hC 93 dX21_checkSwitch_89 (by decide) ?_
          exact hr_sub _ rfl (J79 _ (by first | (rw [if_neg c81]; done) | (simp only [if_neg c81]; done) | rfl))
set_option maxRecDepth 20000 in
set_option maxHeartbeats 4000000 in
theorem okbX21_checkSwitch (l : Launch) (E : hc_E) (A : Nat → Prop) (d : Nat) {kk : Nat} (n : Nat) (k0 : Nat) (rec : Nat → List Int32 → hc_St → Option (Int32 × hc_St)) (hD : kk + 2 * k0 + 17 ≤ d) (IH : ∀ (w : Nat) (a : List Int32) (σ : hc_St) (r : (Int32 × hc_St)), rec w a σ = some r → ∀ am, okg_X21_statements l E A (d - 1) am w a σ r) {x1 : Int32} {σ : hc_St} {r : (Int32 × hc_St)} (h : bd_X21_checkSwitch n k0 rec x1 σ = some r) (am : Nat → Nat → Nat) : hc_M l hc_V0 yX21_checkSwitch (ws_ yX21_checkSwitch cX21_checkSwitch 7 none) d E A [.ref (E.2.1 23), .int x1] am [] σ (.inl (none)) r.2 := by
  have hd1 : 1 ≤ d := by omega
  have hd8 : 9 ≤ d := by omega
  have hd12 : 12 ≤ d := by omega
  refine hc_enter2 (own := RX21) [(0, .ref (E.2.1 23)), (1, .int x1)] pl_X21 rfl hc_V0_st hc_G0_nd rfl (Nat.le_of_ble_eq_true rfl) (fun X hC hem => ?_)
  unfold bd_X21_checkSwitch at h
  refine hr_aload_n hC dX21_checkSwitch_0 rfl ?_
  refine hr_aload_n hC dX21_checkSwitch_1 rfl ?_
  refine hr_gA hC F23_21 rfl dX21_checkSwitch_2 q2863 ?_
  refine hr_iload_n hC dX21_checkSwitch_5 rfl ?_
  obtain ⟨c1, h⟩ := hk_ok h
  refine hs_iald hC A23_21 c1 dX21_checkSwitch_6 ?_
  refine hr_iconst (v := 1) hC dX21_checkSwitch_7 rfl ?_
  obtain ⟨r2, e3, h⟩ := hx_bind h
  refine hs_callV0 hC 23 [_, _] _ dX21_checkSwitch_8 q3442 q3444 qs247 q335 q3445 np_X21 rfl OB_23 pd_X21_check (Nat.le_of_ble_eq_true rfl) hd1 (okX21_check l E A (d - 1) n k0 (by omega)  e3 am) rfl ?_
  refine hr_pop hC dX21_checkSwitch_11 rfl ?_
  refine hr_aload_n hC dX21_checkSwitch_12 rfl ?_
  refine hr_gI hC F23_38 dX21_checkSwitch_13 q2879 ?_
  refine hr_istore_n hC dX21_checkSwitch_16 (by decide) ?_
  refine hr_aload_n hC dX21_checkSwitch_17 rfl ?_
  refine hr_gI hC F23_42 dX21_checkSwitch_18 q2883 ?_
  refine hr_istore_n hC dX21_checkSwitch_21 (by decide) ?_
  refine hr_aload_n hC dX21_checkSwitch_22 rfl ?_
  refine hr_aload_n hC dX21_checkSwitch_23 rfl ?_
  refine hr_gI hC F23_38 dX21_checkSwitch_24 q2879 ?_
  obtain ⟨σ6, hσ6, h⟩ := hl_ok h
  refine hr_pI hC F23_42 PX21_42 dX21_checkSwitch_27 q2883 ?_
  rw [← hσ6]
  refine hr_aload_n hC dX21_checkSwitch_30 rfl ?_
  refine hr_dup hC dX21_checkSwitch_31 rfl ?_
  refine hr_gI hC F23_50 dX21_checkSwitch_32 q2891 ?_
  refine hr_iconst (v := 1) hC dX21_checkSwitch_35 rfl ?_
  refine hr_iadd hC dX21_checkSwitch_36 ?_
  obtain ⟨σ7, hσ7, h⟩ := hl_ok h
  refine hr_pI hC F23_50 PX21_50 dX21_checkSwitch_37 q2891 ?_
  rw [← hσ7]
  refine hr_iconst (v := 0) hC dX21_checkSwitch_40 rfl ?_
  refine hr_istore hC dX21_checkSwitch_41 (by decide) ?_
  refine hr_aload_n hC dX21_checkSwitch_43 rfl ?_
  refine hr_gA hC F23_22 rfl dX21_checkSwitch_44 q2864 ?_
  refine hr_iload_n hC dX21_checkSwitch_47 rfl ?_
  obtain ⟨c8, h⟩ := hk_ok h
  refine hs_iald hC A23_22 c8 dX21_checkSwitch_48 ?_
  refine hr_istore hC dX21_checkSwitch_49 (by decide) ?_
  obtain ⟨r83, e84, h⟩ := hx_bind h
  refine hr_sub _ rfl (ll_X21_checkSwitch_51 n k0 rec hD hem IH hC n _ _ _ _ _ _ _ am e84 ?_)
  refine hr_aload_n hC dX21_checkSwitch_253 rfl ?_
  refine hr_dup hC dX21_checkSwitch_254 rfl ?_
  refine hr_gI hC F23_50 dX21_checkSwitch_255 q2891 ?_
  refine hr_iconst (v := 1) hC dX21_checkSwitch_258 rfl ?_
  refine hr_isub hC dX21_checkSwitch_259 ?_
  obtain ⟨σ88, hσ88, h⟩ := hl_ok h
  refine hr_pI hC F23_50 PX21_50 dX21_checkSwitch_260 q2891 ?_
  rw [← hσ88]
  refine hr_aload_n hC dX21_checkSwitch_263 rfl ?_
  refine hr_iload_n hC dX21_checkSwitch_264 rfl ?_
  refine hr_iload_n hC dX21_checkSwitch_265 rfl ?_
  obtain ⟨r89, e90, h⟩ := hx_bind h
  refine hs_callV0 hC 23 [_, _] _ dX21_checkSwitch_266 q3434 q3436 qs245 q335 q3437 np_X21 rfl OB_23 pd_X21_leave (Nat.le_of_ble_eq_true rfl) hd1 (okX21_leave l E A (d - 1)  (by omega)  e90 am) rfl ?_
  obtain rfl := Option.some.inj h
  exact hr_vret hC dX21_checkSwitch_269
def rc_X21_statements (n : Nat) (k0 : Nat) : Nat → Nat → List Int32 → hc_St → Option (Int32 × hc_St)
  | 0, _, _, _ => none
  | k + 1, w, a, σ => match w with
    | 0 => bd_X21_statements n k0 (rc_X21_statements n k0 k) (a.getD 0 0) σ
    | 1 => bd_X21_checkStatement n k0 (rc_X21_statements n k0 k) (a.getD 0 0) σ
    | 2 => bd_X21_checkBlock n k0 (rc_X21_statements n k0 k) (a.getD 0 0) σ
    | 3 => bd_X21_checkBody n k0 (rc_X21_statements n k0 k) (a.getD 0 0) σ
    | 4 => bd_X21_checkFor n k0 (rc_X21_statements n k0 k) (a.getD 0 0) σ
    | 5 => bd_X21_checkSwitch n k0 (rc_X21_statements n k0 k) (a.getD 0 0) σ
    | _ => none
theorem okr_X21_statements (l : Launch) (E : hc_E) (A : Nat → Prop) (n : Nat) (k0 : Nat) : ∀ (k d : Nat), k + 2 * k0 + 17 ≤ d → ∀ (w : Nat) (a : List Int32) (σ : hc_St) (r : (Int32 × hc_St)), rc_X21_statements n k0 k w a σ = some r → ∀ am, okg_X21_statements l E A d am w a σ r
  | 0, d, _, w, a, σ, r, h, am => by cases h
  | k + 1, d, hd, w, a, σ, r, h, am => by
    have IH := okr_X21_statements l E A n k0 k (d - 1) (by omega)
    match w, h with
    | 0, h => exact okbX21_statements l E A d (kk := k) n k0 (rc_X21_statements n k0 k) (by omega) IH h am
    | 1, h => exact okbX21_checkStatement l E A d (kk := k) n k0 (rc_X21_statements n k0 k) (by omega) IH h am
    | 2, h => exact okbX21_checkBlock l E A d (kk := k) n k0 (rc_X21_statements n k0 k) (by omega) IH h am
    | 3, h => exact okbX21_checkBody l E A d (kk := k) n k0 (rc_X21_statements n k0 k) (by omega) IH h am
    | 4, h => exact okbX21_checkFor l E A d (kk := k) n k0 (rc_X21_statements n k0 k) (by omega) IH h am
    | 5, h => exact okbX21_checkSwitch l E A d (kk := k) n k0 (rc_X21_statements n k0 k) (by omega) IH h am
    | w + 6, h => trivial
def fm_X21_statements (n : Nat) (k0 : Nat) (x1 : Int32) (σ : hc_St) : Option (Int32 × hc_St) := rc_X21_statements n k0 k0 0 [x1] σ
theorem okX21_statements (l : Launch) (E : hc_E) (A : Nat → Prop) (d : Nat) (n : Nat) (k0 : Nat) (hD : k0 + 2 * k0 + 17 ≤ d)  {x1 : Int32} {σ : hc_St} {r : (Int32 × hc_St)} (h : fm_X21_statements n k0 x1 σ = some r) (am : Nat → Nat → Nat) : hc_M l hc_V0 yX21_statements (ws_ yX21_statements cX21_statements 3 none) d E A [.ref (E.2.1 23), .int x1] am [] σ (.inl (none)) r.2 := okr_X21_statements l E A n k0 k0 d hD 0 _ _ _ h am
def fm_X21_checkStatement (n : Nat) (k0 : Nat) (x1 : Int32) (σ : hc_St) : Option (Int32 × hc_St) := rc_X21_statements n k0 k0 1 [x1] σ
theorem okX21_checkStatement (l : Launch) (E : hc_E) (A : Nat → Prop) (d : Nat) (n : Nat) (k0 : Nat) (hD : k0 + 2 * k0 + 17 ≤ d)  {x1 : Int32} {σ : hc_St} {r : (Int32 × hc_St)} (h : fm_X21_checkStatement n k0 x1 σ = some r) (am : Nat → Nat → Nat) : hc_M l hc_V0 yX21_checkStatement (ws_ yX21_checkStatement cX21_checkStatement 3 none) d E A [.ref (E.2.1 23), .int x1] am [] σ (.inl (none)) r.2 := okr_X21_statements l E A n k0 k0 d hD 1 _ _ _ h am
def fm_X21_checkBlock (n : Nat) (k0 : Nat) (x1 : Int32) (σ : hc_St) : Option (Int32 × hc_St) := rc_X21_statements n k0 k0 2 [x1] σ
theorem okX21_checkBlock (l : Launch) (E : hc_E) (A : Nat → Prop) (d : Nat) (n : Nat) (k0 : Nat) (hD : k0 + 2 * k0 + 17 ≤ d)  {x1 : Int32} {σ : hc_St} {r : (Int32 × hc_St)} (h : fm_X21_checkBlock n k0 x1 σ = some r) (am : Nat → Nat → Nat) : hc_M l hc_V0 yX21_checkBlock (ws_ yX21_checkBlock cX21_checkBlock 4 none) d E A [.ref (E.2.1 23), .int x1] am [] σ (.inl (none)) r.2 := okr_X21_statements l E A n k0 k0 d hD 2 _ _ _ h am
def fm_X21_checkBody (n : Nat) (k0 : Nat) (x1 : Int32) (σ : hc_St) : Option (Int32 × hc_St) := rc_X21_statements n k0 k0 3 [x1] σ
theorem okX21_checkBody (l : Launch) (E : hc_E) (A : Nat → Prop) (d : Nat) (n : Nat) (k0 : Nat) (hD : k0 + 2 * k0 + 17 ≤ d)  {x1 : Int32} {σ : hc_St} {r : (Int32 × hc_St)} (h : fm_X21_checkBody n k0 x1 σ = some r) (am : Nat → Nat → Nat) : hc_M l hc_V0 yX21_checkBody (ws_ yX21_checkBody cX21_checkBody 2 none) d E A [.ref (E.2.1 23), .int x1] am [] σ (.inl (none)) r.2 := okr_X21_statements l E A n k0 k0 d hD 3 _ _ _ h am
def fm_X21_checkFor (n : Nat) (k0 : Nat) (x1 : Int32) (σ : hc_St) : Option (Int32 × hc_St) := rc_X21_statements n k0 k0 4 [x1] σ
theorem okX21_checkFor (l : Launch) (E : hc_E) (A : Nat → Prop) (d : Nat) (n : Nat) (k0 : Nat) (hD : k0 + 2 * k0 + 17 ≤ d)  {x1 : Int32} {σ : hc_St} {r : (Int32 × hc_St)} (h : fm_X21_checkFor n k0 x1 σ = some r) (am : Nat → Nat → Nat) : hc_M l hc_V0 yX21_checkFor (ws_ yX21_checkFor cX21_checkFor 4 none) d E A [.ref (E.2.1 23), .int x1] am [] σ (.inl (none)) r.2 := okr_X21_statements l E A n k0 k0 d hD 4 _ _ _ h am
def fm_X21_checkSwitch (n : Nat) (k0 : Nat) (x1 : Int32) (σ : hc_St) : Option (Int32 × hc_St) := rc_X21_statements n k0 k0 5 [x1] σ
theorem okX21_checkSwitch (l : Launch) (E : hc_E) (A : Nat → Prop) (d : Nat) (n : Nat) (k0 : Nat) (hD : k0 + 2 * k0 + 17 ≤ d)  {x1 : Int32} {σ : hc_St} {r : (Int32 × hc_St)} (h : fm_X21_checkSwitch n k0 x1 σ = some r) (am : Nat → Nat → Nat) : hc_M l hc_V0 yX21_checkSwitch (ws_ yX21_checkSwitch cX21_checkSwitch 7 none) d E A [.ref (E.2.1 23), .int x1] am [] σ (.inl (none)) r.2 := okr_X21_statements l E A n k0 k0 d hD 5 _ _ _ h am
def okg_X21_height (l : Launch) (E : hc_E) (A : Nat → Prop) (d : Nat) (am : Nat → Nat → Nat) (w : Nat) (a : List Int32) (σ : hc_St) (r : (Int32 × hc_St)) : Prop := match w with
  | 0 => hc_M l hc_V0 yX21_height (ws_ yX21_height cX21_height 12 (some .int)) d E A [.ref (E.2.1 23), .int (a.getD 0 0)] am [] σ (.inl (some (.int r.1))) r.2
  | _ => True
def lp_X21_height_91 (n : Nat) (k0 : Nat) (rec : Nat → List Int32 → hc_St → Option (Int32 × hc_St)) : Nat → Int32 → Int32 → Int32 → Int32 → Int32 → Int32 → hc_St → Option (hc_St × Int32)
  | 0, _, _, _, _, _, _, _ => none
  | m + 1, y1, y2, y3, y4, y5, y6, σ => if y6 < 0 then (some (σ, y2)) else (Option.bind (α := Int32) (if y4 = 0 then (hk (inb y1 (gL σ 23 22)) <| Option.bind (fm_X21_taken n ((((gC σ 23 22 y1)) - 100)) ((-1)) y5 σ) fun r21 => some (r21)) else (hk (inb y1 (gL σ 23 22)) <| Option.bind (fm_X21_taken n ((-1)) ((gC σ 23 22 y1)) y5 σ) fun r26 => some (r26))) fun r16 => hl (α := Int32) ((if r16 = 105 then 0 else (if r16 = 107 then 0 else 1))) fun v32 => Option.bind (α := hc_St × Int32) (if v32 = 0 then (if r16 = 107 then (some (σ, 1)) else (Option.bind (rec 0 [y6] σ) fun r41 => some (r41.2, r41.1))) else (some (σ, 2))) fun r35 => hl (α := Int32) ((if (y3 + r35.2) ≤ y2 then y2 else (y3 + r35.2))) fun v47 => hl (α := Int32) ((if v32 = 0 then 1 else 2)) fun v50 => hk (inb y6 (gL r35.1 23 25)) <| lp_X21_height_91 n k0 rec m y1 v47 ((y3 + v50)) y4 ((y5 + 1)) ((gC r35.1 23 25 y6)) r35.1)
def lp_X21_height_265 (n : Nat) (k0 : Nat) (rec : Nat → List Int32 → hc_St → Option (Int32 × hc_St)) : Nat → Int32 → Int32 → hc_St → Option (hc_St × Int32)
  | 0, _, _, _ => none
  | m + 1, y6, y7, σ => if y7 < 0 then (some (σ, y6)) else (Option.bind (rec 0 [y7] σ) fun r84 => hl (α := Int32) ((if (1 + r84.1) ≤ y6 then y6 else (1 + r84.1))) fun v90 => hk (inb y7 (gL r84.2 23 25)) <| lp_X21_height_265 n k0 rec m v90 ((gC r84.2 23 25 y7)) r84.2)
/-- HomeCompilerModel.height(I)I -/
def bd_X21_height (n : Nat) (k0 : Nat) (rec : Nat → List Int32 → hc_St → Option (Int32 × hc_St)) (x1 : Int32) (σ : hc_St) : Option (Int32 × hc_St) := hk (inb x1 (gL σ 23 18)) <| if (gC σ 23 18 x1).toInt8.toInt32 = 1 then (some (1, σ)) else if (gC σ 23 18 x1).toInt8.toInt32 = 2 then (some (1, σ)) else if (gC σ 23 18 x1).toInt8.toInt32 = 3 then (hk (inb x1 (gL σ 23 22)) <| hl (α := Int32) ((if 100 ≤ (gC σ 23 22 x1) then 0 else 1)) fun v10 => hk (inb x1 (gL σ 23 21)) <| Option.bind (lp_X21_height_91 n k0 rec n x1 1 0 v10 0 ((gC σ 23 21 x1)) σ) fun r62 => some (r62.2, r62.1)) else if (gC σ 23 18 x1).toInt8.toInt32 = 4 then (hk (inb x1 (gL σ 23 21)) <| Option.bind (rec 0 [((gC σ 23 21 x1))] σ) fun r71 => some (r71.1, r71.2)) else if (gC σ 23 18 x1).toInt8.toInt32 = 7 then (hk (inb x1 (gL σ 23 21)) <| Option.bind (rec 0 [((gC σ 23 21 x1))] σ) fun r76 => hk (inb x1 (gL r76.2 23 21)) <| hk (inb ((gC r76.2 23 21 x1)) (gL r76.2 23 25)) <| Option.bind (lp_X21_height_265 n k0 rec n r76.1 ((gC r76.2 23 25 ((gC r76.2 23 21 x1)))) r76.2) fun r95 => some (r95.2, r95.1)) else if (gC σ 23 18 x1).toInt8.toInt32 = 8 then (hk (inb x1 (gL σ 23 21)) <| Option.bind (rec 0 [((gC σ 23 21 x1))] σ) fun r101 => hk (inb x1 (gL r101.2 23 22)) <| Option.bind (rec 0 [((gC r101.2 23 22 x1))] r101.2) fun r106 => hk (inb x1 (gL r106.2 23 23)) <| Option.bind (rec 0 [((gC r106.2 23 23 x1))] r106.2) fun r111 => hl (α := Int32) ((if r106.1 ≤ r101.1 then r101.1 else r106.1)) fun v117 => hl (α := Int32) ((if r111.1 ≤ v117 then v117 else r111.1)) fun v120 => some (v120, r111.2)) else if (gC σ 23 18 x1).toInt8.toInt32 = 9 then (hk (inb x1 (gL σ 23 22)) <| Option.bind (rec 0 [((gC σ 23 22 x1))] σ) fun r128 => hk (inb x1 (gL r128.2 23 21)) <| hk (inb ((gC r128.2 23 21 x1)) (gL r128.2 23 18)) <| Option.bind (α := hc_St × Int32) (if (gC r128.2 23 18 ((gC r128.2 23 21 x1))).toInt8.toInt32 = 4 then (hk (inb x1 (gL r128.2 23 21)) <| hk (inb ((gC r128.2 23 21 x1)) (gL r128.2 23 21)) <| Option.bind (rec 0 [((gC r128.2 23 21 ((gC r128.2 23 21 x1))))] r128.2) fun r142 => hl (α := Int32) ((if r142.1 ≤ (r128.1 + 1) then (r128.1 + 1) else r142.1)) fun v148 => some (r142.2, v148)) else (some (r128.2, r128.1))) fun r136 => some (r136.2, r136.1)) else (hk (inb x1 (gL σ 23 21)) <| Option.bind (rec 0 [((gC σ 23 21 x1))] σ) fun r3 => some (r3.1, r3.2))
set_option maxRecDepth 20000 in
set_option maxHeartbeats 4000000 in
theorem ll_X21_height_91 {l : Launch} {E : hc_E} {A : Nat → Prop} {am : Nat → Nat → Nat} {d : Nat} {kk : Nat} {X : hc_X} (n : Nat) (k0 : Nat) (rec : Nat → List Int32 → hc_St → Option (Int32 × hc_St)) (hD : kk + 10 ≤ d) (hem : X.2.2.2.2.2.2.2.2.2.1.exceptionTable.isEmpty = true) (IH : ∀ (w : Nat) (a : List Int32) (σ : hc_St) (r : (Int32 × hc_St)), rec w a σ = some r → ∀ am, okg_X21_height l E A (d - 1) am w a σ r) {oc : hc_Oc} {σe : hc_St} (hC : hc_C hc_V0 E cX21_height 12 RX21 (some .int) d oc σe (l, A, am, []) X) : ∀ (m : Nat) (σ : hc_St) (y1 : Int32) (y2 : Int32) (y3 : Int32) (y4 : Int32) (y5 : Int32) (y6 : Int32) (rl : hc_St × Int32) (am1 : Nat → Nat → Nat), lp_X21_height_91 n k0 rec m y1 y2 y3 y4 y5 y6 σ = some rl → (hc_At hc_V0 E 12 X 227 [(2, .int rl.2)] [] rl.1 am1 []) → hc_At hc_V0 E 12 X 91 [(0, .ref (E.2.1 23)), (1, .int y1), (2, .int y2), (3, .int y3), (4, .int y4), (5, .int y5), (6, .int y6)] [] σ am1 [] := by
  have hd1 : 1 ≤ d := by omega
  have hd8 : 9 ≤ d := by omega
  intro m
  induction m with
  | zero =>
    intro σ y1 y2 y3 y4 y5 y6 rl am1 h
    cases h
  | succ m ih =>
    intro σ y1 y2 y3 y4 y5 y6 rl am1 h JX
    rw [lp_X21_height_91] at h
    refine hr_iload hC dX21_height_91 rfl ?_
    refine hr_if_lt (x := _) hC 227 dX21_height_93 (by decide) (fun c13 => ?_) (fun c13 => ?_)
    · rw [if_pos c13] at h
      obtain rfl := Option.some.inj h
      exact hr_sub _ rfl (JX)
    · rw [if_neg c13] at h
      refine hr_iload hC dX21_height_96 rfl ?_
      obtain ⟨r16, e17, h⟩ := hx_bind h
      have J18 : hc_At hc_V0 E 12 X 133 [(0, .ref (E.2.1 23)), (1, .int y1), (2, .int y2), (3, .int y3), (4, .int y4), (5, .int y5), (6, .int y6)] [.int r16] σ am1 [] := by
        refine hr_istore hC dX21_height_133 (by decide) ?_
        refine hr_iload hC dX21_height_135 rfl ?_
        refine hr_bipush (v := 105) hC dX21_height_137 rfl ?_
        obtain ⟨v32, hv32, h⟩ := hl_ok h
        have J58 : ∀ w59 : Int32, (if r16 = 105 then 0 else (if r16 = 107 then 0 else 1)) = w59 → hc_At hc_V0 E 12 X 154 [(0, .ref (E.2.1 23)), (1, .int y1), (2, .int y2), (3, .int y3), (4, .int y4), (5, .int y5), (6, .int y6), (7, .int r16)] [.int w59] σ am1 [] := by
          intro w59 hw59
          obtain rfl := hv32.trans hw59
          refine hr_istore hC dX21_height_154 (by decide) ?_
          refine hr_iload_n hC dX21_height_156 rfl ?_
          refine hr_iload hC dX21_height_157 rfl ?_
          obtain ⟨r35, e36, h⟩ := hx_bind h
          have J37 : hc_At hc_V0 E 12 X 183 [(0, .ref (E.2.1 23)), (1, .int y1), (2, .int y2), (3, .int y3), (4, .int y4), (5, .int y5), (6, .int y6), (8, .int v32)] [.int r35.2, .int y3] r35.1 am1 [] := by
            refine hr_iadd hC dX21_height_183 ?_
            refine hr_istore hC dX21_height_184 (by decide) ?_
            refine hr_iload hC dX21_height_186 rfl ?_
            refine hr_iload_n hC dX21_height_188 rfl ?_
            obtain ⟨v47, hv47, h⟩ := hl_ok h
            have J55 : ∀ w56 : Int32, (if (y3 + r35.2) ≤ y2 then y2 else (y3 + r35.2)) = w56 → hc_At hc_V0 E 12 X 198 [(0, .ref (E.2.1 23)), (1, .int y1), (3, .int y3), (4, .int y4), (5, .int y5), (6, .int y6), (8, .int v32)] [.int w56] r35.1 am1 [] := by
              intro w56 hw56
              obtain rfl := hv47.trans hw56
              refine hr_istore_n hC dX21_height_198 (by decide) ?_
              refine hr_iload_n hC dX21_height_199 rfl ?_
              refine hr_iload hC dX21_height_200 rfl ?_
              obtain ⟨v50, hv50, h⟩ := hl_ok h
              have J52 : ∀ w53 : Int32, (if v32 = 0 then 1 else 2) = w53 → hc_At hc_V0 E 12 X 210 [(0, .ref (E.2.1 23)), (1, .int y1), (2, .int v47), (4, .int y4), (5, .int y5), (6, .int y6)] [.int w53, .int y3] r35.1 am1 [] := by
                intro w53 hw53
                obtain rfl := hv50.trans hw53
                refine hr_iadd hC dX21_height_210 ?_
                refine hr_istore_n hC dX21_height_211 (by decide) ?_
                refine hr_iinc (v := y5 + 1) hC dX21_height_212 rfl rfl (by decide) ?_
                refine hr_aload_n hC dX21_height_215 rfl ?_
                refine hr_gA hC F23_25 rfl dX21_height_216 q2867 ?_
                refine hr_iload hC dX21_height_219 rfl ?_
                obtain ⟨c51, h⟩ := hk_ok h
                refine hs_iald hC A23_25 c51 dX21_height_221 ?_
                refine hr_istore hC dX21_height_222 (by decide) ?_
                refine hr_goto hC 91 dX21_height_224 (by decide) ?_
                exact hr_sub _ rfl (ih _ _ _ _ _ _ _ _ am1 h JX)
              refine hr_if_eq (x := _) hC 209 dX21_height_202 (by decide) (fun c54 => ?_) (fun c54 => ?_)
              · refine hr_iconst (v := 1) hC dX21_height_209 rfl ?_
                exact hr_sub _ rfl (J52 _ (by first | (rw [if_pos c54]; done) | (simp only [if_pos c54]; done) | rfl))
              · refine hr_iconst (v := 2) hC dX21_height_205 rfl ?_
                refine hr_goto hC 210 dX21_height_206 (by decide) ?_
                exact hr_sub _ rfl (J52 _ (by first | (rw [if_neg c54]; done) | (simp only [if_neg c54]; done) | rfl))
            refine hr_icmp_le (x := _) hC 197 dX21_height_189 (by decide) (fun c57 => ?_) (fun c57 => ?_)
            · refine hr_iload_n hC dX21_height_197 rfl ?_
              exact hr_sub _ rfl (J55 _ (by first | (rw [if_pos c57]; done) | (simp only [if_pos c57]; done) | rfl))
            · refine hr_iload hC dX21_height_192 rfl ?_
              refine hr_goto hC 198 dX21_height_194 (by decide) ?_
              exact hr_sub _ rfl (J55 _ (by first | (rw [if_neg c57]; done) | (simp only [if_neg c57]; done) | rfl))
          clear h
          have h := e36
          refine hr_if_eq (x := _) hC 166 dX21_height_159 (by decide) (fun c34 => ?_) (fun c34 => ?_)
          · rw [if_pos c34] at h
            refine hr_iload hC dX21_height_166 rfl ?_
            refine hr_bipush (v := 107) hC dX21_height_168 rfl ?_
            refine hr_icmp_ne (x := _) hC 177 dX21_height_170 (by decide) (fun c40 => ?_) (fun c40 => ?_)
            · rw [if_neg c40] at h
              refine hr_aload_n hC dX21_height_177 rfl ?_
              refine hr_iload hC dX21_height_178 rfl ?_
              obtain ⟨r41, e42, h⟩ := hx_bind h
              refine hs_callV0 hC 23 [_] _ dX21_height_180 q3530 q3532 qs269 q335 q3533 np_X21 rfl OB_23 pd_X21_height (Nat.le_of_ble_eq_true rfl) hd1 (IH _ _ _ _ e42 am1) rfl ?_
              obtain rfl := Option.some.inj h
              exact hr_sub _ rfl (J37)
            · rw [if_pos c40] at h
              refine hr_iconst (v := 1) hC dX21_height_173 rfl ?_
              refine hr_goto hC 183 dX21_height_174 (by decide) ?_
              obtain rfl := Option.some.inj h
              exact hr_sub _ rfl (J37)
          · rw [if_neg c34] at h
            refine hr_iconst (v := 2) hC dX21_height_162 rfl ?_
            refine hr_goto hC 183 dX21_height_163 (by decide) ?_
            obtain rfl := Option.some.inj h
            exact hr_sub _ rfl (J37)
        refine hr_icmp_eq (x := _) hC 153 dX21_height_139 (by decide) (fun c60 => ?_) (fun c60 => ?_)
        · refine hr_iconst (v := 0) hC dX21_height_153 rfl ?_
          exact hr_sub _ rfl (J58 _ (by first | (rw [if_pos c60]; done) | (simp only [if_pos c60]; done) | rfl))
        · refine hr_iload hC dX21_height_142 rfl ?_
          refine hr_bipush (v := 107) hC dX21_height_144 rfl ?_
          refine hr_icmp_eq (x := _) hC 153 dX21_height_146 (by decide) (fun c61 => ?_) (fun c61 => ?_)
          · refine hr_iconst (v := 0) hC dX21_height_153 rfl ?_
            exact hr_sub _ rfl (J58 _ (by first | (rw [if_neg c60, if_pos c61]; done) | (simp only [if_neg c60, if_pos c61]; done) | rfl))
          · refine hr_iconst (v := 1) hC dX21_height_149 rfl ?_
            refine hr_goto hC 154 dX21_height_150 (by decide) ?_
            exact hr_sub _ rfl (J58 _ (by first | (rw [if_neg c60, if_neg c61]; done) | (simp only [if_neg c60, if_neg c61]; done) | rfl))
      clear h
      have h := e17
      refine hr_if_eq (x := _) hC 117 dX21_height_98 (by decide) (fun c15 => ?_) (fun c15 => ?_)
      · rw [if_pos c15] at h
        refine hr_aload_n hC dX21_height_117 rfl ?_
        refine hr_aload_n hC dX21_height_118 rfl ?_
        refine hr_gA hC F23_22 rfl dX21_height_119 q2864 ?_
        refine hr_iload_n hC dX21_height_122 rfl ?_
        obtain ⟨c20, h⟩ := hk_ok h
        refine hs_iald hC A23_22 c20 dX21_height_123 ?_
        refine hr_bipush (v := 100) hC dX21_height_124 rfl ?_
        refine hr_isub hC dX21_height_126 ?_
        refine hr_iconst (v := (-1)) hC dX21_height_127 rfl ?_
        refine hr_iload hC dX21_height_128 rfl ?_
        obtain ⟨r21, e22, h⟩ := hx_bind h
        refine hs_callV0 hC 23 [_, _, _] _ dX21_height_130 q3454 q3456 qs250 q335 q3457 np_X21 rfl OB_23 pd_X21_taken (Nat.le_of_ble_eq_true rfl) hd1 (okX21_taken l E A (d - 1) n (by omega)  e22 am1) rfl ?_
        obtain rfl := Option.some.inj h
        exact hr_sub _ rfl (J18)
      · rw [if_neg c15] at h
        refine hr_aload_n hC dX21_height_101 rfl ?_
        refine hr_iconst (v := (-1)) hC dX21_height_102 rfl ?_
        refine hr_aload_n hC dX21_height_103 rfl ?_
        refine hr_gA hC F23_22 rfl dX21_height_104 q2864 ?_
        refine hr_iload_n hC dX21_height_107 rfl ?_
        obtain ⟨c25, h⟩ := hk_ok h
        refine hs_iald hC A23_22 c25 dX21_height_108 ?_
        refine hr_iload hC dX21_height_109 rfl ?_
        obtain ⟨r26, e27, h⟩ := hx_bind h
        refine hs_callV0 hC 23 [_, _, _] _ dX21_height_111 q3454 q3456 qs250 q335 q3457 np_X21 rfl OB_23 pd_X21_taken (Nat.le_of_ble_eq_true rfl) hd1 (okX21_taken l E A (d - 1) n (by omega)  e27 am1) rfl ?_
        refine hr_goto hC 133 dX21_height_114 (by decide) ?_
        obtain rfl := Option.some.inj h
        exact hr_sub _ rfl (J18)
set_option maxRecDepth 20000 in
set_option maxHeartbeats 4000000 in
theorem ll_X21_height_265 {l : Launch} {E : hc_E} {A : Nat → Prop} {am : Nat → Nat → Nat} {d : Nat} {kk : Nat} {X : hc_X} (n : Nat) (k0 : Nat) (rec : Nat → List Int32 → hc_St → Option (Int32 × hc_St)) (hD : kk + 10 ≤ d) (hem : X.2.2.2.2.2.2.2.2.2.1.exceptionTable.isEmpty = true) (IH : ∀ (w : Nat) (a : List Int32) (σ : hc_St) (r : (Int32 × hc_St)), rec w a σ = some r → ∀ am, okg_X21_height l E A (d - 1) am w a σ r) {oc : hc_Oc} {σe : hc_St} (hC : hc_C hc_V0 E cX21_height 12 RX21 (some .int) d oc σe (l, A, am, []) X) : ∀ (m : Nat) (σ : hc_St) (y6 : Int32) (y7 : Int32) (rl : hc_St × Int32) (am1 : Nat → Nat → Nat), lp_X21_height_265 n k0 rec m y6 y7 σ = some rl → (hc_At hc_V0 E 12 X 308 [(6, .int rl.2)] [] rl.1 am1 []) → hc_At hc_V0 E 12 X 265 [(0, .ref (E.2.1 23)), (6, .int y6), (7, .int y7)] [] σ am1 [] := by
  have hd1 : 1 ≤ d := by omega
  have hd8 : 9 ≤ d := by omega
  intro m
  induction m with
  | zero =>
    intro σ y6 y7 rl am1 h
    cases h
  | succ m ih =>
    intro σ y6 y7 rl am1 h JX
    rw [lp_X21_height_265] at h
    refine hr_iload hC dX21_height_265 rfl ?_
    refine hr_if_lt (x := _) hC 308 dX21_height_267 (by decide) (fun c83 => ?_) (fun c83 => ?_)
    · rw [if_pos c83] at h
      obtain rfl := Option.some.inj h
      exact hr_sub _ rfl (JX)
    · rw [if_neg c83] at h
      refine hr_iconst (v := 1) hC dX21_height_270 rfl ?_
      refine hr_aload_n hC dX21_height_271 rfl ?_
      refine hr_iload hC dX21_height_272 rfl ?_
      obtain ⟨r84, e85, h⟩ := hx_bind h
      refine hs_callV0 hC 23 [_] _ dX21_height_274 q3530 q3532 qs269 q335 q3533 np_X21 rfl OB_23 pd_X21_height (Nat.le_of_ble_eq_true rfl) hd1 (IH _ _ _ _ e85 am1) rfl ?_
      refine hr_iadd hC dX21_height_277 ?_
      refine hr_istore hC dX21_height_278 (by decide) ?_
      refine hr_iload hC dX21_height_280 rfl ?_
      refine hr_iload hC dX21_height_282 rfl ?_
      obtain ⟨v90, hv90, h⟩ := hl_ok h
      have J92 : ∀ w93 : Int32, (if (1 + r84.1) ≤ y6 then y6 else (1 + r84.1)) = w93 → hc_At hc_V0 E 12 X 294 [(0, .ref (E.2.1 23)), (7, .int y7)] [.int w93] r84.2 am1 [] := by
        intro w93 hw93
        obtain rfl := hv90.trans hw93
        refine hr_istore hC dX21_height_294 (by decide) ?_
        refine hr_aload_n hC dX21_height_296 rfl ?_
        refine hr_gA hC F23_25 rfl dX21_height_297 q2867 ?_
        refine hr_iload hC dX21_height_300 rfl ?_
        obtain ⟨c91, h⟩ := hk_ok h
        refine hs_iald hC A23_25 c91 dX21_height_302 ?_
        refine hr_istore hC dX21_height_303 (by decide) ?_
        refine hr_goto hC 265 dX21_height_305 (by decide) ?_
        exact hr_sub _ rfl (ih _ _ _ _ am1 h JX)
      refine hr_icmp_le (x := _) hC 292 dX21_height_284 (by decide) (fun c94 => ?_) (fun c94 => ?_)
      · refine hr_iload hC dX21_height_292 rfl ?_
        exact hr_sub _ rfl (J92 _ (by first | (rw [if_pos c94]; done) | (simp only [if_pos c94]; done) | rfl))
      · refine hr_iload hC dX21_height_287 rfl ?_
        refine hr_goto hC 294 dX21_height_289 (by decide) ?_
        exact hr_sub _ rfl (J92 _ (by first | (rw [if_neg c94]; done) | (simp only [if_neg c94]; done) | rfl))
set_option maxRecDepth 20000 in
set_option maxHeartbeats 4000000 in
theorem okbX21_height (l : Launch) (E : hc_E) (A : Nat → Prop) (d : Nat) {kk : Nat} (n : Nat) (k0 : Nat) (rec : Nat → List Int32 → hc_St → Option (Int32 × hc_St)) (hD : kk + 10 ≤ d) (IH : ∀ (w : Nat) (a : List Int32) (σ : hc_St) (r : (Int32 × hc_St)), rec w a σ = some r → ∀ am, okg_X21_height l E A (d - 1) am w a σ r) {x1 : Int32} {σ : hc_St} {r : (Int32 × hc_St)} (h : bd_X21_height n k0 rec x1 σ = some r) (am : Nat → Nat → Nat) : hc_M l hc_V0 yX21_height (ws_ yX21_height cX21_height 12 (some .int)) d E A [.ref (E.2.1 23), .int x1] am [] σ (.inl (some (.int r.1))) r.2 := by
  have hd1 : 1 ≤ d := by omega
  have hd8 : 9 ≤ d := by omega
  refine hc_enter2 (own := RX21) [(0, .ref (E.2.1 23)), (1, .int x1)] pl_X21 rfl hc_V0_st hc_G0_nd rfl (Nat.le_of_ble_eq_true rfl) (fun X hC hem => ?_)
  unfold bd_X21_height at h
  refine hr_aload_n hC dX21_height_0 rfl ?_
  refine hr_gA hC F23_18 rfl dX21_height_1 q2860 ?_
  refine hr_iload_n hC dX21_height_4 rfl ?_
  obtain ⟨c1, h⟩ := hk_ok h
  refine hs_bald hC A23_18 c1 dX21_height_5 ?_
  by_cases c152 : (gC σ 23 18 x1).toInt8.toInt32 = 1
  · rw [if_pos c152] at h
    refine hr_tableIn hC 56 dX21_height_6 (by rw [c152] <;> decide) (by rw [c152] <;> decide) (by rw [c152] <;> rfl) (by decide) ?_
    refine hr_iconst (v := 1) hC dX21_height_56 rfl ?_
    obtain rfl := Option.some.inj h
    exact hr_iret hC dX21_height_57
  rw [if_neg c152] at h
  by_cases c153 : (gC σ 23 18 x1).toInt8.toInt32 = 2
  · rw [if_pos c153] at h
    refine hr_tableIn hC 56 dX21_height_6 (by rw [c153] <;> decide) (by rw [c153] <;> decide) (by rw [c153] <;> rfl) (by decide) ?_
    refine hr_iconst (v := 1) hC dX21_height_56 rfl ?_
    obtain rfl := Option.some.inj h
    exact hr_iret hC dX21_height_57
  rw [if_neg c153] at h
  by_cases c154 : (gC σ 23 18 x1).toInt8.toInt32 = 3
  · rw [if_pos c154] at h
    refine hr_tableIn hC 58 dX21_height_6 (by rw [c154] <;> decide) (by rw [c154] <;> decide) (by rw [c154] <;> rfl) (by decide) ?_
    refine hr_iconst (v := 1) hC dX21_height_58 rfl ?_
    refine hr_istore_n hC dX21_height_59 (by decide) ?_
    refine hr_iconst (v := 0) hC dX21_height_60 rfl ?_
    refine hr_istore_n hC dX21_height_61 (by decide) ?_
    refine hr_aload_n hC dX21_height_62 rfl ?_
    refine hr_gA hC F23_22 rfl dX21_height_63 q2864 ?_
    refine hr_iload_n hC dX21_height_66 rfl ?_
    obtain ⟨c7, h⟩ := hk_ok h
    refine hs_iald hC A23_22 c7 dX21_height_67 ?_
    refine hr_bipush (v := 100) hC dX21_height_68 rfl ?_
    obtain ⟨v10, hv10, h⟩ := hl_ok h
    have J67 : ∀ w68 : Int32, (if 100 ≤ (gC σ 23 22 x1) then 0 else 1) = w68 → hc_At hc_V0 E 12 X 78 [(0, .ref (E.2.1 23)), (1, .int x1), (2, .int 1), (3, .int 0)] [.int w68] σ am [] := by
      intro w68 hw68
      obtain rfl := hv10.trans hw68
      refine hr_istore hC dX21_height_78 (by decide) ?_
      refine hr_iconst (v := 0) hC dX21_height_80 rfl ?_
      refine hr_istore hC dX21_height_81 (by decide) ?_
      refine hr_aload_n hC dX21_height_83 rfl ?_
      refine hr_gA hC F23_21 rfl dX21_height_84 q2863 ?_
      refine hr_iload_n hC dX21_height_87 rfl ?_
      obtain ⟨c11, h⟩ := hk_ok h
      refine hs_iald hC A23_21 c11 dX21_height_88 ?_
      refine hr_istore hC dX21_height_89 (by decide) ?_
      obtain ⟨r62, e63, h⟩ := hx_bind h
      refine hr_sub _ rfl (ll_X21_height_91 n k0 rec hD hem IH hC n _ _ _ _ _ _ _ _ am e63 ?_)
      refine hr_iload_n hC dX21_height_227 rfl ?_
      obtain rfl := Option.some.inj h
      exact hr_iret hC dX21_height_228
    refine hr_icmp_ge (x := _) hC 77 dX21_height_70 (by decide) (fun c69 => ?_) (fun c69 => ?_)
    · refine hr_iconst (v := 0) hC dX21_height_77 rfl ?_
      exact hr_sub _ rfl (J67 _ (by first | (rw [if_pos c69]; done) | (simp only [if_pos c69]; done) | rfl))
    · refine hr_iconst (v := 1) hC dX21_height_73 rfl ?_
      refine hr_goto hC 78 dX21_height_74 (by decide) ?_
      exact hr_sub _ rfl (J67 _ (by first | (rw [if_neg c69]; done) | (simp only [if_neg c69]; done) | rfl))
  rw [if_neg c154] at h
  by_cases c155 : (gC σ 23 18 x1).toInt8.toInt32 = 4
  · rw [if_pos c155] at h
    refine hr_tableIn hC 229 dX21_height_6 (by rw [c155] <;> decide) (by rw [c155] <;> decide) (by rw [c155] <;> rfl) (by decide) ?_
    refine hr_aload_n hC dX21_height_229 rfl ?_
    refine hr_aload_n hC dX21_height_230 rfl ?_
    refine hr_gA hC F23_21 rfl dX21_height_231 q2863 ?_
    refine hr_iload_n hC dX21_height_234 rfl ?_
    obtain ⟨c70, h⟩ := hk_ok h
    refine hs_iald hC A23_21 c70 dX21_height_235 ?_
    obtain ⟨r71, e72, h⟩ := hx_bind h
    refine hs_callV0 hC 23 [_] _ dX21_height_236 q3530 q3532 qs269 q335 q3533 np_X21 rfl OB_23 pd_X21_height (Nat.le_of_ble_eq_true rfl) hd1 (IH _ _ _ _ e72 am) rfl ?_
    obtain rfl := Option.some.inj h
    exact hr_iret hC dX21_height_239
  rw [if_neg c155] at h
  by_cases c156 : (gC σ 23 18 x1).toInt8.toInt32 = 7
  · rw [if_pos c156] at h
    refine hr_tableIn hC 240 dX21_height_6 (by rw [c156] <;> decide) (by rw [c156] <;> decide) (by rw [c156] <;> rfl) (by decide) ?_
    refine hr_aload_n hC dX21_height_240 rfl ?_
    refine hr_aload_n hC dX21_height_241 rfl ?_
    refine hr_gA hC F23_21 rfl dX21_height_242 q2863 ?_
    refine hr_iload_n hC dX21_height_245 rfl ?_
    obtain ⟨c75, h⟩ := hk_ok h
    refine hs_iald hC A23_21 c75 dX21_height_246 ?_
    obtain ⟨r76, e77, h⟩ := hx_bind h
    refine hs_callV0 hC 23 [_] _ dX21_height_247 q3530 q3532 qs269 q335 q3533 np_X21 rfl OB_23 pd_X21_height (Nat.le_of_ble_eq_true rfl) hd1 (IH _ _ _ _ e77 am) rfl ?_
    refine hr_istore hC dX21_height_250 (by decide) ?_
    refine hr_aload_n hC dX21_height_252 rfl ?_
    refine hr_gA hC F23_25 rfl dX21_height_253 q2867 ?_
    refine hr_aload_n hC dX21_height_256 rfl ?_
    refine hr_gA hC F23_21 rfl dX21_height_257 q2863 ?_
    refine hr_iload_n hC dX21_height_260 rfl ?_
    obtain ⟨c80, h⟩ := hk_ok h
    refine hs_iald hC A23_21 c80 dX21_height_261 ?_
    obtain ⟨c81, h⟩ := hk_ok h
    refine hs_iald hC A23_25 c81 dX21_height_262 ?_
    refine hr_istore hC dX21_height_263 (by decide) ?_
    obtain ⟨r95, e96, h⟩ := hx_bind h
    refine hr_sub _ rfl (ll_X21_height_265 n k0 rec hD hem IH hC n _ _ _ _ am e96 ?_)
    refine hr_iload hC dX21_height_308 rfl ?_
    obtain rfl := Option.some.inj h
    exact hr_iret hC dX21_height_310
  rw [if_neg c156] at h
  by_cases c157 : (gC σ 23 18 x1).toInt8.toInt32 = 8
  · rw [if_pos c157] at h
    refine hr_tableIn hC 311 dX21_height_6 (by rw [c157] <;> decide) (by rw [c157] <;> decide) (by rw [c157] <;> rfl) (by decide) ?_
    refine hr_aload_n hC dX21_height_311 rfl ?_
    refine hr_aload_n hC dX21_height_312 rfl ?_
    refine hr_gA hC F23_21 rfl dX21_height_313 q2863 ?_
    refine hr_iload_n hC dX21_height_316 rfl ?_
    obtain ⟨c100, h⟩ := hk_ok h
    refine hs_iald hC A23_21 c100 dX21_height_317 ?_
    obtain ⟨r101, e102, h⟩ := hx_bind h
    refine hs_callV0 hC 23 [_] _ dX21_height_318 q3530 q3532 qs269 q335 q3533 np_X21 rfl OB_23 pd_X21_height (Nat.le_of_ble_eq_true rfl) hd1 (IH _ _ _ _ e102 am) rfl ?_
    refine hr_istore hC dX21_height_321 (by decide) ?_
    refine hr_aload_n hC dX21_height_323 rfl ?_
    refine hr_aload_n hC dX21_height_324 rfl ?_
    refine hr_gA hC F23_22 rfl dX21_height_325 q2864 ?_
    refine hr_iload_n hC dX21_height_328 rfl ?_
    obtain ⟨c105, h⟩ := hk_ok h
    refine hs_iald hC A23_22 c105 dX21_height_329 ?_
    obtain ⟨r106, e107, h⟩ := hx_bind h
    refine hs_callV0 hC 23 [_] _ dX21_height_330 q3530 q3532 qs269 q335 q3533 np_X21 rfl OB_23 pd_X21_height (Nat.le_of_ble_eq_true rfl) hd1 (IH _ _ _ _ e107 am) rfl ?_
    refine hr_istore hC dX21_height_333 (by decide) ?_
    refine hr_aload_n hC dX21_height_335 rfl ?_
    refine hr_aload_n hC dX21_height_336 rfl ?_
    refine hr_gA hC F23_23 rfl dX21_height_337 q2865 ?_
    refine hr_iload_n hC dX21_height_340 rfl ?_
    obtain ⟨c110, h⟩ := hk_ok h
    refine hs_iald hC A23_23 c110 dX21_height_341 ?_
    obtain ⟨r111, e112, h⟩ := hx_bind h
    refine hs_callV0 hC 23 [_] _ dX21_height_342 q3530 q3532 qs269 q335 q3533 np_X21 rfl OB_23 pd_X21_height (Nat.le_of_ble_eq_true rfl) hd1 (IH _ _ _ _ e112 am) rfl ?_
    refine hr_istore hC dX21_height_345 (by decide) ?_
    refine hr_iload hC dX21_height_347 rfl ?_
    refine hr_iload hC dX21_height_349 rfl ?_
    obtain ⟨v117, hv117, h⟩ := hl_ok h
    have J124 : ∀ w125 : Int32, (if r106.1 ≤ r101.1 then r101.1 else r106.1) = w125 → hc_At hc_V0 E 12 X 361 [(9, .int r111.1)] [.int w125] r111.2 am [] := by
      intro w125 hw125
      obtain rfl := hv117.trans hw125
      refine hr_istore hC dX21_height_361 (by decide) ?_
      refine hr_iload hC dX21_height_363 rfl ?_
      refine hr_iload hC dX21_height_365 rfl ?_
      obtain ⟨v120, hv120, h⟩ := hl_ok h
      have J121 : ∀ w122 : Int32, (if r111.1 ≤ v117 then v117 else r111.1) = w122 → hc_At hc_V0 E 12 X 377 [] [.int w122] r111.2 am [] := by
        intro w122 hw122
        obtain rfl := hv120.trans hw122
        obtain rfl := Option.some.inj h
        exact hr_iret hC dX21_height_377
      refine hr_icmp_le (x := _) hC 375 dX21_height_367 (by decide) (fun c123 => ?_) (fun c123 => ?_)
      · refine hr_iload hC dX21_height_375 rfl ?_
        exact hr_sub _ rfl (J121 _ (by first | (rw [if_pos c123]; done) | (simp only [if_pos c123]; done) | rfl))
      · refine hr_iload hC dX21_height_370 rfl ?_
        refine hr_goto hC 377 dX21_height_372 (by decide) ?_
        exact hr_sub _ rfl (J121 _ (by first | (rw [if_neg c123]; done) | (simp only [if_neg c123]; done) | rfl))
    refine hr_icmp_le (x := _) hC 359 dX21_height_351 (by decide) (fun c126 => ?_) (fun c126 => ?_)
    · refine hr_iload hC dX21_height_359 rfl ?_
      exact hr_sub _ rfl (J124 _ (by first | (rw [if_pos c126]; done) | (simp only [if_pos c126]; done) | rfl))
    · refine hr_iload hC dX21_height_354 rfl ?_
      refine hr_goto hC 361 dX21_height_356 (by decide) ?_
      exact hr_sub _ rfl (J124 _ (by first | (rw [if_neg c126]; done) | (simp only [if_neg c126]; done) | rfl))
  rw [if_neg c157] at h
  by_cases c158 : (gC σ 23 18 x1).toInt8.toInt32 = 9
  · rw [if_pos c158] at h
    refine hr_tableIn hC 378 dX21_height_6 (by rw [c158] <;> decide) (by rw [c158] <;> decide) (by rw [c158] <;> rfl) (by decide) ?_
    refine hr_aload_n hC dX21_height_378 rfl ?_
    refine hr_aload_n hC dX21_height_379 rfl ?_
    refine hr_gA hC F23_22 rfl dX21_height_380 q2864 ?_
    refine hr_iload_n hC dX21_height_383 rfl ?_
    obtain ⟨c127, h⟩ := hk_ok h
    refine hs_iald hC A23_22 c127 dX21_height_384 ?_
    obtain ⟨r128, e129, h⟩ := hx_bind h
    refine hs_callV0 hC 23 [_] _ dX21_height_385 q3530 q3532 qs269 q335 q3533 np_X21 rfl OB_23 pd_X21_height (Nat.le_of_ble_eq_true rfl) hd1 (IH _ _ _ _ e129 am) rfl ?_
    refine hr_istore hC dX21_height_388 (by decide) ?_
    refine hr_aload_n hC dX21_height_390 rfl ?_
    refine hr_gA hC F23_18 rfl dX21_height_391 q2860 ?_
    refine hr_aload_n hC dX21_height_394 rfl ?_
    refine hr_gA hC F23_21 rfl dX21_height_395 q2863 ?_
    refine hr_iload_n hC dX21_height_398 rfl ?_
    obtain ⟨c132, h⟩ := hk_ok h
    refine hs_iald hC A23_21 c132 dX21_height_399 ?_
    obtain ⟨c133, h⟩ := hk_ok h
    refine hs_bald hC A23_18 c133 dX21_height_400 ?_
    refine hr_iconst (v := 4) hC dX21_height_401 rfl ?_
    obtain ⟨r136, e137, h⟩ := hx_bind h
    have J138 : hc_At hc_V0 E 12 X 442 [(10, .int r136.2)] [] r136.1 am [] := by
      refine hr_iload hC dX21_height_442 rfl ?_
      obtain rfl := Option.some.inj h
      exact hr_iret hC dX21_height_444
    clear h
    have h := e137
    refine hr_icmp_ne (x := _) hC 442 dX21_height_402 (by decide) (fun c135 => ?_) (fun c135 => ?_)
    · rw [if_neg c135] at h
      obtain rfl := Option.some.inj h
      exact hr_sub _ rfl (J138)
    · rw [if_pos c135] at h
      refine hr_aload_n hC dX21_height_405 rfl ?_
      refine hr_aload_n hC dX21_height_406 rfl ?_
      refine hr_gA hC F23_21 rfl dX21_height_407 q2863 ?_
      refine hr_aload_n hC dX21_height_410 rfl ?_
      refine hr_gA hC F23_21 rfl dX21_height_411 q2863 ?_
      refine hr_iload_n hC dX21_height_414 rfl ?_
      obtain ⟨c140, h⟩ := hk_ok h
      refine hs_iald hC A23_21 c140 dX21_height_415 ?_
      obtain ⟨c141, h⟩ := hk_ok h
      refine hs_iald hC A23_21 c141 dX21_height_416 ?_
      obtain ⟨r142, e143, h⟩ := hx_bind h
      refine hs_callV0 hC 23 [_] _ dX21_height_417 q3530 q3532 qs269 q335 q3533 np_X21 rfl OB_23 pd_X21_height (Nat.le_of_ble_eq_true rfl) hd1 (IH _ _ _ _ e143 am) rfl ?_
      refine hr_istore hC dX21_height_420 (by decide) ?_
      refine hr_iload hC dX21_height_422 rfl ?_
      refine hr_iload hC dX21_height_424 rfl ?_
      refine hr_iconst (v := 1) hC dX21_height_426 rfl ?_
      refine hr_iadd hC dX21_height_427 ?_
      obtain ⟨v148, hv148, h⟩ := hl_ok h
      have J149 : ∀ w150 : Int32, (if r142.1 ≤ (r128.1 + 1) then (r128.1 + 1) else r142.1) = w150 → hc_At hc_V0 E 12 X 440 [] [.int w150] r142.2 am [] := by
        intro w150 hw150
        obtain rfl := hv148.trans hw150
        refine hr_istore hC dX21_height_440 (by decide) ?_
        obtain rfl := Option.some.inj h
        exact hr_sub _ rfl (J138)
      refine hr_icmp_le (x := _) hC 436 dX21_height_428 (by decide) (fun c151 => ?_) (fun c151 => ?_)
      · refine hr_iload hC dX21_height_436 rfl ?_
        refine hr_iconst (v := 1) hC dX21_height_438 rfl ?_
        refine hr_iadd hC dX21_height_439 ?_
        exact hr_sub _ rfl (J149 _ (by first | (rw [if_pos c151]; done) | (simp only [if_pos c151]; done) | rfl))
      · refine hr_iload hC dX21_height_431 rfl ?_
        refine hr_goto hC 440 dX21_height_433 (by decide) ?_
        exact hr_sub _ rfl (J149 _ (by first | (rw [if_neg c151]; done) | (simp only [if_neg c151]; done) | rfl))
  rw [if_neg c158] at h
  refine hr_tableD hC 445 dX21_height_6 (ks := [1, 2, 3, 4, 7, 8, 9]) (hc_l1 (hc_ne c152 rfl) (hc_l1 (hc_ne c153 rfl) (hc_l1 (hc_ne c154 rfl) (hc_l1 (hc_ne c155 rfl) (hc_l1 (hc_ne c156 rfl) (hc_l1 (hc_ne c157 rfl) (hc_l1 (hc_ne c158 rfl) hc_l0))))))) (by decide) (by decide) (by decide) ?_
  refine hr_aload_n hC dX21_height_445 rfl ?_
  refine hr_aload_n hC dX21_height_446 rfl ?_
  refine hr_gA hC F23_21 rfl dX21_height_447 q2863 ?_
  refine hr_iload_n hC dX21_height_450 rfl ?_
  obtain ⟨c2, h⟩ := hk_ok h
  refine hs_iald hC A23_21 c2 dX21_height_451 ?_
  obtain ⟨r3, e4, h⟩ := hx_bind h
  refine hs_callV0 hC 23 [_] _ dX21_height_452 q3530 q3532 qs269 q335 q3533 np_X21 rfl OB_23 pd_X21_height (Nat.le_of_ble_eq_true rfl) hd1 (IH _ _ _ _ e4 am) rfl ?_
  obtain rfl := Option.some.inj h
  exact hr_iret hC dX21_height_455
def rc_X21_height (n : Nat) (k0 : Nat) : Nat → Nat → List Int32 → hc_St → Option (Int32 × hc_St)
  | 0, _, _, _ => none
  | k + 1, w, a, σ => match w with
    | 0 => bd_X21_height n k0 (rc_X21_height n k0 k) (a.getD 0 0) σ
    | _ => none
theorem okr_X21_height (l : Launch) (E : hc_E) (A : Nat → Prop) (n : Nat) (k0 : Nat) : ∀ (k d : Nat), k + 10 ≤ d → ∀ (w : Nat) (a : List Int32) (σ : hc_St) (r : (Int32 × hc_St)), rc_X21_height n k0 k w a σ = some r → ∀ am, okg_X21_height l E A d am w a σ r
  | 0, d, _, w, a, σ, r, h, am => by cases h
  | k + 1, d, hd, w, a, σ, r, h, am => by
    have IH := okr_X21_height l E A n k0 k (d - 1) (by omega)
    match w, h with
    | 0, h => exact okbX21_height l E A d (kk := k) n k0 (rc_X21_height n k0 k) (by omega) IH h am
    | w + 1, h => trivial
def fm_X21_height (n : Nat) (k0 : Nat) (x1 : Int32) (σ : hc_St) : Option (Int32 × hc_St) := rc_X21_height n k0 k0 0 [x1] σ
theorem okX21_height (l : Launch) (E : hc_E) (A : Nat → Prop) (d : Nat) (n : Nat) (k0 : Nat) (hD : k0 + 10 ≤ d)  {x1 : Int32} {σ : hc_St} {r : (Int32 × hc_St)} (h : fm_X21_height n k0 x1 σ = some r) (am : Nat → Nat → Nat) : hc_M l hc_V0 yX21_height (ws_ yX21_height cX21_height 12 (some .int)) d E A [.ref (E.2.1 23), .int x1] am [] σ (.inl (some (.int r.1))) r.2 := okr_X21_height l E A n k0 k0 d hD 0 _ _ _ h am
/-- HomeCompilerModel.raise(I)V -/
def fm_X21_raise (n : Nat) (k0 : Nat) (x1 : Int32) (σ : hc_St) : Option hc_St := Option.bind (α := hc_St × Int32) (if 0 ≤ x1 then (Option.bind (fm_X21_height n k0 x1 σ) fun r7 => some (r7.2, r7.1)) else (some (σ, 0))) fun r3 => hl (α := Int32) ((if r3.2 ≤ (gI r3.1 23 64) then (gI r3.1 23 64) else r3.2)) fun v13 => hl (pI r3.1 23 64 v13) fun σ14 => some σ14
set_option maxRecDepth 20000 in
set_option maxHeartbeats 4000000 in
theorem okX21_raise (l : Launch) (E : hc_E) (A : Nat → Prop) (d : Nat) (n : Nat) (k0 : Nat) (hD : 1 * k0 + 11 ≤ d) {x1 : Int32} {σ : hc_St} {r : hc_St} (h : fm_X21_raise n k0 x1 σ = some r) (am : Nat → Nat → Nat) : hc_M l hc_V0 yX21_raise (ws_ yX21_raise cX21_raise 3 none) d E A [.ref (E.2.1 23), .int x1] am [] σ (.inl none) r := by
  have hd1 : 1 ≤ d := by omega
  have hd8 : 9 ≤ d := by omega
  refine hc_enter2 (own := RX21) [(0, .ref (E.2.1 23)), (1, .int x1)] pl_X21 rfl hc_V0_st hc_G0_nd rfl (Nat.le_of_ble_eq_true rfl) (fun X hC hem => ?_)
  unfold fm_X21_raise at h
  refine hr_iload_n hC dX21_raise_0 rfl ?_
  obtain ⟨r3, e4, h⟩ := hx_bind h
  have J5 : hc_At hc_V0 E 3 X 13 [(0, .ref (E.2.1 23))] [.int r3.2] r3.1 am [] := by
    refine hr_istore_n hC dX21_raise_13 (by decide) ?_
    refine hr_aload_n hC dX21_raise_14 rfl ?_
    refine hr_iload_n hC dX21_raise_15 rfl ?_
    refine hr_aload_n hC dX21_raise_16 rfl ?_
    refine hr_gI hC F23_64 dX21_raise_17 q2905 ?_
    obtain ⟨v13, hv13, h⟩ := hl_ok h
    have J15 : ∀ w16 : Int32, (if r3.2 ≤ (gI r3.1 23 64) then (gI r3.1 23 64) else r3.2) = w16 → hc_At hc_V0 E 3 X 31 [] [.int w16, .ref (E.2.1 23)] r3.1 am [] := by
      intro w16 hw16
      obtain rfl := hv13.trans hw16
      obtain ⟨σ14, hσ14, h⟩ := hl_ok h
      refine hr_pI hC F23_64 PX21_64 dX21_raise_31 q2905 ?_
      rw [← hσ14]
      obtain rfl := Option.some.inj h
      exact hr_vret hC dX21_raise_34
    refine hr_icmp_le (x := _) hC 27 dX21_raise_20 (by decide) (fun c17 => ?_) (fun c17 => ?_)
    · refine hr_aload_n hC dX21_raise_27 rfl ?_
      refine hr_gI hC F23_64 dX21_raise_28 q2905 ?_
      exact hr_sub _ rfl (J15 _ (by first | (rw [if_pos c17]; done) | (simp only [if_pos c17]; done) | rfl))
    · refine hr_iload_n hC dX21_raise_23 rfl ?_
      refine hr_goto hC 31 dX21_raise_24 (by decide) ?_
      exact hr_sub _ rfl (J15 _ (by first | (rw [if_neg c17]; done) | (simp only [if_neg c17]; done) | rfl))
  clear h
  have h := e4
  refine hr_if_ge (x := _) hC 8 dX21_raise_1 (by decide) (fun c2 => ?_) (fun c2 => ?_)
  · rw [if_pos c2] at h
    refine hr_aload_n hC dX21_raise_8 rfl ?_
    refine hr_iload_n hC dX21_raise_9 rfl ?_
    obtain ⟨r7, e8, h⟩ := hx_bind h
    refine hs_callV0 hC 23 [_] _ dX21_raise_10 q3530 q3532 qs269 q335 q3533 np_X21 rfl OB_23 pd_X21_height (Nat.le_of_ble_eq_true rfl) hd1 (okX21_height l E A (d - 1) n k0 (by omega)  e8 am) rfl ?_
    obtain rfl := Option.some.inj h
    exact hr_sub _ rfl (J5)
  · rw [if_neg c2] at h
    refine hr_iconst (v := 0) hC dX21_raise_4 rfl ?_
    refine hr_goto hC 13 dX21_raise_5 (by decide) ?_
    obtain rfl := Option.some.inj h
    exact hr_sub _ rfl (J5)
def okg_X21_measure (l : Launch) (E : hc_E) (A : Nat → Prop) (d : Nat) (am : Nat → Nat → Nat) (w : Nat) (a : List Int32) (σ : hc_St) (r : (Int32 × hc_St)) : Prop := match w with
  | 0 => hc_M l hc_V0 yX21_measure (ws_ yX21_measure cX21_measure 3 none) d E A [.ref (E.2.1 23), .int (a.getD 0 0)] am [] σ (.inl (none)) r.2
  | 1 => hc_M l hc_V0 yX21_measureOne (ws_ yX21_measureOne cX21_measureOne 3 none) d E A [.ref (E.2.1 23), .int (a.getD 0 0)] am [] σ (.inl (none)) r.2
  | _ => True
def lp_X21_measure_2 (n : Nat) (k0 : Nat) (rec : Nat → List Int32 → hc_St → Option (Int32 × hc_St)) : Nat → Int32 → hc_St → Option (hc_St)
  | 0, _, _ => none
  | m + 1, y2, σ => if y2 < 0 then (some (σ)) else (Option.bind (rec 1 [y2] σ) fun r3 => hk (inb y2 (gL r3.2 23 25)) <| lp_X21_measure_2 n k0 rec m ((gC r3.2 23 25 y2)) r3.2)
/-- HomeCompilerModel.measure(I)V -/
def bd_X21_measure (n : Nat) (k0 : Nat) (rec : Nat → List Int32 → hc_St → Option (Int32 × hc_St)) (x1 : Int32) (σ : hc_St) : Option (Int32 × hc_St) := Option.bind (lp_X21_measure_2 n k0 rec n x1 σ) fun r8 => some (0, r8)
set_option maxRecDepth 20000 in
set_option maxHeartbeats 4000000 in
theorem ll_X21_measure_2 {l : Launch} {E : hc_E} {A : Nat → Prop} {am : Nat → Nat → Nat} {d : Nat} {kk : Nat} {X : hc_X} (n : Nat) (k0 : Nat) (rec : Nat → List Int32 → hc_St → Option (Int32 × hc_St)) (hD : kk + 1 * k0 + 12 ≤ d) (hem : X.2.2.2.2.2.2.2.2.2.1.exceptionTable.isEmpty = true) (IH : ∀ (w : Nat) (a : List Int32) (σ : hc_St) (r : (Int32 × hc_St)), rec w a σ = some r → ∀ am, okg_X21_measure l E A (d - 1) am w a σ r) {oc : hc_Oc} {σe : hc_St} (hC : hc_C hc_V0 E cX21_measure 3 RX21 none d oc σe (l, A, am, []) X) : ∀ (m : Nat) (σ : hc_St) (y2 : Int32) (rl : hc_St) (am1 : Nat → Nat → Nat), lp_X21_measure_2 n k0 rec m y2 σ = some rl → (hc_At hc_V0 E 3 X 21 [] [] rl am1 []) → hc_At hc_V0 E 3 X 2 [(0, .ref (E.2.1 23)), (2, .int y2)] [] σ am1 [] := by
  have hd1 : 1 ≤ d := by omega
  have hd8 : 9 ≤ d := by omega
  intro m
  induction m with
  | zero =>
    intro σ y2 rl am1 h
    cases h
  | succ m ih =>
    intro σ y2 rl am1 h JX
    rw [lp_X21_measure_2] at h
    refine hr_iload_n hC dX21_measure_2 rfl ?_
    refine hr_if_lt (x := _) hC 21 dX21_measure_3 (by decide) (fun c2 => ?_) (fun c2 => ?_)
    · rw [if_pos c2] at h
      obtain rfl := Option.some.inj h
      exact hr_sub _ rfl (JX)
    · rw [if_neg c2] at h
      refine hr_aload_n hC dX21_measure_6 rfl ?_
      refine hr_iload_n hC dX21_measure_7 rfl ?_
      obtain ⟨r3, e4, h⟩ := hx_bind h
      refine hs_callV0 hC 23 [_] _ dX21_measure_8 q3522 q3524 qs267 q335 q3525 np_X21 rfl OB_23 pd_X21_measureOne (Nat.le_of_ble_eq_true rfl) hd1 (IH _ _ _ _ e4 am1) rfl ?_
      refine hr_aload_n hC dX21_measure_11 rfl ?_
      refine hr_gA hC F23_25 rfl dX21_measure_12 q2867 ?_
      refine hr_iload_n hC dX21_measure_15 rfl ?_
      obtain ⟨c7, h⟩ := hk_ok h
      refine hs_iald hC A23_25 c7 dX21_measure_16 ?_
      refine hr_istore_n hC dX21_measure_17 (by decide) ?_
      refine hr_goto hC 2 dX21_measure_18 (by decide) ?_
      exact hr_sub _ rfl (ih _ _ _ am1 h JX)
set_option maxRecDepth 20000 in
set_option maxHeartbeats 4000000 in
theorem okbX21_measure (l : Launch) (E : hc_E) (A : Nat → Prop) (d : Nat) {kk : Nat} (n : Nat) (k0 : Nat) (rec : Nat → List Int32 → hc_St → Option (Int32 × hc_St)) (hD : kk + 1 * k0 + 12 ≤ d) (IH : ∀ (w : Nat) (a : List Int32) (σ : hc_St) (r : (Int32 × hc_St)), rec w a σ = some r → ∀ am, okg_X21_measure l E A (d - 1) am w a σ r) {x1 : Int32} {σ : hc_St} {r : (Int32 × hc_St)} (h : bd_X21_measure n k0 rec x1 σ = some r) (am : Nat → Nat → Nat) : hc_M l hc_V0 yX21_measure (ws_ yX21_measure cX21_measure 3 none) d E A [.ref (E.2.1 23), .int x1] am [] σ (.inl (none)) r.2 := by
  have hd1 : 1 ≤ d := by omega
  have hd8 : 9 ≤ d := by omega
  refine hc_enter2 (own := RX21) [(0, .ref (E.2.1 23)), (1, .int x1)] pl_X21 rfl hc_V0_st hc_G0_nd rfl (Nat.le_of_ble_eq_true rfl) (fun X hC hem => ?_)
  unfold bd_X21_measure at h
  refine hr_iload_n hC dX21_measure_0 rfl ?_
  refine hr_istore_n hC dX21_measure_1 (by decide) ?_
  obtain ⟨r8, e9, h⟩ := hx_bind h
  refine hr_sub _ rfl (ll_X21_measure_2 n k0 rec hD hem IH hC n _ _ _ am e9 ?_)
  obtain rfl := Option.some.inj h
  exact hr_vret hC dX21_measure_21
def lp_X21_measureOne_109 (n : Nat) (k0 : Nat) (rec : Nat → List Int32 → hc_St → Option (Int32 × hc_St)) : Nat → Int32 → hc_St → Option (hc_St)
  | 0, _, _ => none
  | m + 1, y2, σ => if y2 < 0 then (some (σ)) else (hk (inb y2 (gL σ 23 26)) <| Option.bind (α := Int32) (if (gC σ 23 26 y2) = 1 then (hk (inb y2 (gL σ 23 22)) <| some ((gC σ 23 22 y2))) else (some ((-1)))) fun r22 => Option.bind (fm_X21_raise n k0 r22 σ) fun r27 => hk (inb y2 (gL r27 23 25)) <| lp_X21_measureOne_109 n k0 rec m ((gC r27 23 25 y2)) r27)
/-- HomeCompilerModel.measureOne(I)V -/
def bd_X21_measureOne (n : Nat) (k0 : Nat) (rec : Nat → List Int32 → hc_St → Option (Int32 × hc_St)) (x1 : Int32) (σ : hc_St) : Option (Int32 × hc_St) := hk (inb x1 (gL σ 23 18)) <| Option.bind (α := hc_St) (if (gC σ 23 18 x1).toInt8.toInt32 = 20 then (hk (inb x1 (gL σ 23 21)) <| Option.bind (rec 0 [((gC σ 23 21 x1))] σ) fun r7 => some (r7.2)) else if (gC σ 23 18 x1).toInt8.toInt32 = 22 then (hk (inb x1 (gL σ 23 21)) <| Option.bind (fm_X21_raise n k0 ((gC σ 23 21 x1)) σ) fun r12 => some (r12)) else if (gC σ 23 18 x1).toInt8.toInt32 = 23 then (hk (inb x1 (gL σ 23 21)) <| Option.bind (lp_X21_measureOne_109 n k0 rec n ((gC σ 23 21 x1)) σ) fun r32 => some (r32)) else if (gC σ 23 18 x1).toInt8.toInt32 = 24 then (hk (inb x1 (gL σ 23 21)) <| Option.bind (fm_X21_raise n k0 ((gC σ 23 21 x1)) σ) fun r38 => hk (inb x1 (gL r38 23 22)) <| Option.bind (rec 1 [((gC r38 23 22 x1))] r38) fun r43 => hk (inb x1 (gL r43.2 23 23)) <| if (gC r43.2 23 23 x1) < 0 then (some (r43.2)) else (hk (inb x1 (gL r43.2 23 23)) <| Option.bind (rec 1 [((gC r43.2 23 23 x1))] r43.2) fun r51 => some (r51.2))) else if (gC σ 23 18 x1).toInt8.toInt32 = 25 then (hk (inb x1 (gL σ 23 21)) <| Option.bind (fm_X21_raise n k0 ((gC σ 23 21 x1)) σ) fun r56 => hk (inb x1 (gL r56 23 22)) <| Option.bind (rec 1 [((gC r56 23 22 x1))] r56) fun r61 => hk (inb x1 (gL r61.2 23 23)) <| if (gC r61.2 23 23 x1) < 0 then (some (r61.2)) else (hk (inb x1 (gL r61.2 23 23)) <| Option.bind (rec 1 [((gC r61.2 23 23 x1))] r61.2) fun r69 => some (r69.2))) else if (gC σ 23 18 x1).toInt8.toInt32 = 26 then (hk (inb x1 (gL σ 23 21)) <| Option.bind (fm_X21_raise n k0 ((gC σ 23 21 x1)) σ) fun r74 => hk (inb x1 (gL r74 23 22)) <| Option.bind (rec 1 [((gC r74 23 22 x1))] r74) fun r79 => hk (inb x1 (gL r79.2 23 23)) <| if (gC r79.2 23 23 x1) < 0 then (some (r79.2)) else (hk (inb x1 (gL r79.2 23 23)) <| Option.bind (rec 1 [((gC r79.2 23 23 x1))] r79.2) fun r87 => some (r87.2))) else if (gC σ 23 18 x1).toInt8.toInt32 = 27 then (hk (inb x1 (gL σ 23 21)) <| Option.bind (α := hc_St) (if (gC σ 23 21 x1) < 0 then (some (σ)) else (hk (inb x1 (gL σ 23 21)) <| Option.bind (rec 1 [((gC σ 23 21 x1))] σ) fun r99 => some (r99.2))) fun r94 => hk (inb x1 (gL r94 23 22)) <| Option.bind (fm_X21_raise n k0 ((gC r94 23 22 x1)) r94) fun r104 => hk (inb x1 (gL r104 23 23)) <| Option.bind (fm_X21_raise n k0 ((gC r104 23 23 x1)) r104) fun r109 => hk (inb x1 (gL r109 23 24)) <| Option.bind (rec 1 [((gC r109 23 24 x1))] r109) fun r114 => some (r114.2)) else if (gC σ 23 18 x1).toInt8.toInt32 = 28 then (hk (inb x1 (gL σ 23 21)) <| Option.bind (fm_X21_raise n k0 ((gC σ 23 21 x1)) σ) fun r119 => hk (inb x1 (gL r119 23 22)) <| Option.bind (rec 0 [((gC r119 23 22 x1))] r119) fun r124 => some (r124.2)) else if (gC σ 23 18 x1).toInt8.toInt32 = 33 then (hk (inb x1 (gL σ 23 21)) <| Option.bind (fm_X21_raise n k0 ((gC σ 23 21 x1)) σ) fun r129 => some (r129)) else (some (σ))) fun r2 => some (0, r2)
set_option maxRecDepth 20000 in
set_option maxHeartbeats 4000000 in
theorem ll_X21_measureOne_109 {l : Launch} {E : hc_E} {A : Nat → Prop} {am : Nat → Nat → Nat} {d : Nat} {kk : Nat} {X : hc_X} (n : Nat) (k0 : Nat) (rec : Nat → List Int32 → hc_St → Option (Int32 × hc_St)) (hD : kk + 1 * k0 + 12 ≤ d) (hem : X.2.2.2.2.2.2.2.2.2.1.exceptionTable.isEmpty = true) (IH : ∀ (w : Nat) (a : List Int32) (σ : hc_St) (r : (Int32 × hc_St)), rec w a σ = some r → ∀ am, okg_X21_measure l E A (d - 1) am w a σ r) {oc : hc_Oc} {σe : hc_St} (hC : hc_C hc_V0 E cX21_measureOne 3 RX21 none d oc σe (l, A, am, []) X) : ∀ (m : Nat) (σ : hc_St) (y2 : Int32) (rl : hc_St) (am1 : Nat → Nat → Nat), lp_X21_measureOne_109 n k0 rec m y2 σ = some rl → (hc_At hc_V0 E 3 X 147 [] [] rl am1 []) → hc_At hc_V0 E 3 X 109 [(0, .ref (E.2.1 23)), (2, .int y2)] [] σ am1 [] := by
  have hd1 : 1 ≤ d := by omega
  have hd8 : 9 ≤ d := by omega
  intro m
  induction m with
  | zero =>
    intro σ y2 rl am1 h
    cases h
  | succ m ih =>
    intro σ y2 rl am1 h JX
    rw [lp_X21_measureOne_109] at h
    refine hr_iload_n hC dX21_measureOne_109 rfl ?_
    refine hr_if_lt (x := _) hC 147 dX21_measureOne_110 (by decide) (fun c18 => ?_) (fun c18 => ?_)
    · rw [if_pos c18] at h
      obtain rfl := Option.some.inj h
      exact hr_sub _ rfl (JX)
    · rw [if_neg c18] at h
      refine hr_aload_n hC dX21_measureOne_113 rfl ?_
      refine hr_aload_n hC dX21_measureOne_114 rfl ?_
      refine hr_gA hC F23_26 rfl dX21_measureOne_115 q2868 ?_
      refine hr_iload_n hC dX21_measureOne_118 rfl ?_
      obtain ⟨c19, h⟩ := hk_ok h
      refine hs_iald hC A23_26 c19 dX21_measureOne_119 ?_
      refine hr_iconst (v := 1) hC dX21_measureOne_120 rfl ?_
      obtain ⟨r22, e23, h⟩ := hx_bind h
      have J24 : hc_At hc_V0 E 3 X 134 [(0, .ref (E.2.1 23)), (2, .int y2)] [.int r22, .ref (E.2.1 23)] σ am1 [] := by
        obtain ⟨r27, e28, h⟩ := hx_bind h
        refine hs_callV0 hC 23 [_] _ dX21_measureOne_134 q3526 q3528 qs268 q335 q3529 np_X21 rfl OB_23 pd_X21_raise (Nat.le_of_ble_eq_true rfl) hd1 (okX21_raise l E A (d - 1) n k0 (by omega)  e28 am1) rfl ?_
        refine hr_aload_n hC dX21_measureOne_137 rfl ?_
        refine hr_gA hC F23_25 rfl dX21_measureOne_138 q2867 ?_
        refine hr_iload_n hC dX21_measureOne_141 rfl ?_
        obtain ⟨c31, h⟩ := hk_ok h
        refine hs_iald hC A23_25 c31 dX21_measureOne_142 ?_
        refine hr_istore_n hC dX21_measureOne_143 (by decide) ?_
        refine hr_goto hC 109 dX21_measureOne_144 (by decide) ?_
        exact hr_sub _ rfl (ih _ _ _ am1 h JX)
      clear h
      have h := e23
      refine hr_icmp_ne (x := _) hC 133 dX21_measureOne_121 (by decide) (fun c21 => ?_) (fun c21 => ?_)
      · rw [if_neg c21] at h
        refine hr_iconst (v := (-1)) hC dX21_measureOne_133 rfl ?_
        obtain rfl := Option.some.inj h
        exact hr_sub _ rfl (J24)
      · rw [if_pos c21] at h
        refine hr_aload_n hC dX21_measureOne_124 rfl ?_
        refine hr_gA hC F23_22 rfl dX21_measureOne_125 q2864 ?_
        refine hr_iload_n hC dX21_measureOne_128 rfl ?_
        obtain ⟨c26, h⟩ := hk_ok h
        refine hs_iald hC A23_22 c26 dX21_measureOne_129 ?_
        refine hr_goto hC 134 dX21_measureOne_130 (by decide) ?_
        obtain rfl := Option.some.inj h
        exact hr_sub _ rfl (J24)
set_option maxRecDepth 20000 in
set_option maxHeartbeats 4000000 in
theorem okbX21_measureOne (l : Launch) (E : hc_E) (A : Nat → Prop) (d : Nat) {kk : Nat} (n : Nat) (k0 : Nat) (rec : Nat → List Int32 → hc_St → Option (Int32 × hc_St)) (hD : kk + 1 * k0 + 12 ≤ d) (IH : ∀ (w : Nat) (a : List Int32) (σ : hc_St) (r : (Int32 × hc_St)), rec w a σ = some r → ∀ am, okg_X21_measure l E A (d - 1) am w a σ r) {x1 : Int32} {σ : hc_St} {r : (Int32 × hc_St)} (h : bd_X21_measureOne n k0 rec x1 σ = some r) (am : Nat → Nat → Nat) : hc_M l hc_V0 yX21_measureOne (ws_ yX21_measureOne cX21_measureOne 3 none) d E A [.ref (E.2.1 23), .int x1] am [] σ (.inl (none)) r.2 := by
  have hd1 : 1 ≤ d := by omega
  have hd8 : 9 ≤ d := by omega
  refine hc_enter2 (own := RX21) [(0, .ref (E.2.1 23)), (1, .int x1)] pl_X21 rfl hc_V0_st hc_G0_nd rfl (Nat.le_of_ble_eq_true rfl) (fun X hC hem => ?_)
  unfold bd_X21_measureOne at h
  refine hr_aload_n hC dX21_measureOne_0 rfl ?_
  refine hr_gA hC F23_18 rfl dX21_measureOne_1 q2860 ?_
  refine hr_iload_n hC dX21_measureOne_4 rfl ?_
  obtain ⟨c1, h⟩ := hk_ok h
  refine hs_bald hC A23_18 c1 dX21_measureOne_5 ?_
  obtain ⟨r2, e3, h⟩ := hx_bind h
  have J4 : hc_At hc_V0 E 3 X 267 [] [] r2 am [] := by
    obtain rfl := Option.some.inj h
    exact hr_vret hC dX21_measureOne_267
  clear h
  have h := e3
  by_cases c133 : (gC σ 23 18 x1).toInt8.toInt32 = 20
  · rw [if_pos c133] at h
    refine hr_tableIn hC 76 dX21_measureOne_6 (by rw [c133] <;> decide) (by rw [c133] <;> decide) (by rw [c133] <;> rfl) (by decide) ?_
    refine hr_aload_n hC dX21_measureOne_76 rfl ?_
    refine hr_aload_n hC dX21_measureOne_77 rfl ?_
    refine hr_gA hC F23_21 rfl dX21_measureOne_78 q2863 ?_
    refine hr_iload_n hC dX21_measureOne_81 rfl ?_
    obtain ⟨c6, h⟩ := hk_ok h
    refine hs_iald hC A23_21 c6 dX21_measureOne_82 ?_
    obtain ⟨r7, e8, h⟩ := hx_bind h
    refine hs_callV0 hC 23 [_] _ dX21_measureOne_83 q3518 q3520 qs266 q335 q3521 np_X21 rfl OB_23 pd_X21_measure (Nat.le_of_ble_eq_true rfl) hd1 (IH _ _ _ _ e8 am) rfl ?_
    refine hr_goto hC 267 dX21_measureOne_86 (by decide) ?_
    obtain rfl := Option.some.inj h
    exact hr_sub _ rfl (J4)
  rw [if_neg c133] at h
  by_cases c134 : (gC σ 23 18 x1).toInt8.toInt32 = 22
  · rw [if_pos c134] at h
    refine hr_tableIn hC 89 dX21_measureOne_6 (by rw [c134] <;> decide) (by rw [c134] <;> decide) (by rw [c134] <;> rfl) (by decide) ?_
    refine hr_aload_n hC dX21_measureOne_89 rfl ?_
    refine hr_aload_n hC dX21_measureOne_90 rfl ?_
    refine hr_gA hC F23_21 rfl dX21_measureOne_91 q2863 ?_
    refine hr_iload_n hC dX21_measureOne_94 rfl ?_
    obtain ⟨c11, h⟩ := hk_ok h
    refine hs_iald hC A23_21 c11 dX21_measureOne_95 ?_
    obtain ⟨r12, e13, h⟩ := hx_bind h
    refine hs_callV0 hC 23 [_] _ dX21_measureOne_96 q3526 q3528 qs268 q335 q3529 np_X21 rfl OB_23 pd_X21_raise (Nat.le_of_ble_eq_true rfl) hd1 (okX21_raise l E A (d - 1) n k0 (by omega)  e13 am) rfl ?_
    refine hr_goto hC 267 dX21_measureOne_99 (by decide) ?_
    obtain rfl := Option.some.inj h
    exact hr_sub _ rfl (J4)
  rw [if_neg c134] at h
  by_cases c135 : (gC σ 23 18 x1).toInt8.toInt32 = 23
  · rw [if_pos c135] at h
    refine hr_tableIn hC 102 dX21_measureOne_6 (by rw [c135] <;> decide) (by rw [c135] <;> decide) (by rw [c135] <;> rfl) (by decide) ?_
    refine hr_aload_n hC dX21_measureOne_102 rfl ?_
    refine hr_gA hC F23_21 rfl dX21_measureOne_103 q2863 ?_
    refine hr_iload_n hC dX21_measureOne_106 rfl ?_
    obtain ⟨c16, h⟩ := hk_ok h
    refine hs_iald hC A23_21 c16 dX21_measureOne_107 ?_
    refine hr_istore_n hC dX21_measureOne_108 (by decide) ?_
    obtain ⟨r32, e33, h⟩ := hx_bind h
    refine hr_sub _ rfl (ll_X21_measureOne_109 n k0 rec hD hem IH hC n _ _ _ am e33 ?_)
    refine hr_goto hC 267 dX21_measureOne_147 (by decide) ?_
    obtain rfl := Option.some.inj h
    exact hr_sub _ rfl (J4)
  rw [if_neg c135] at h
  by_cases c136 : (gC σ 23 18 x1).toInt8.toInt32 = 24
  · rw [if_pos c136] at h
    refine hr_tableIn hC 150 dX21_measureOne_6 (by rw [c136] <;> decide) (by rw [c136] <;> decide) (by rw [c136] <;> rfl) (by decide) ?_
    refine hr_aload_n hC dX21_measureOne_150 rfl ?_
    refine hr_aload_n hC dX21_measureOne_151 rfl ?_
    refine hr_gA hC F23_21 rfl dX21_measureOne_152 q2863 ?_
    refine hr_iload_n hC dX21_measureOne_155 rfl ?_
    obtain ⟨c37, h⟩ := hk_ok h
    refine hs_iald hC A23_21 c37 dX21_measureOne_156 ?_
    obtain ⟨r38, e39, h⟩ := hx_bind h
    refine hs_callV0 hC 23 [_] _ dX21_measureOne_157 q3526 q3528 qs268 q335 q3529 np_X21 rfl OB_23 pd_X21_raise (Nat.le_of_ble_eq_true rfl) hd1 (okX21_raise l E A (d - 1) n k0 (by omega)  e39 am) rfl ?_
    refine hr_aload_n hC dX21_measureOne_160 rfl ?_
    refine hr_aload_n hC dX21_measureOne_161 rfl ?_
    refine hr_gA hC F23_22 rfl dX21_measureOne_162 q2864 ?_
    refine hr_iload_n hC dX21_measureOne_165 rfl ?_
    obtain ⟨c42, h⟩ := hk_ok h
    refine hs_iald hC A23_22 c42 dX21_measureOne_166 ?_
    obtain ⟨r43, e44, h⟩ := hx_bind h
    refine hs_callV0 hC 23 [_] _ dX21_measureOne_167 q3522 q3524 qs267 q335 q3525 np_X21 rfl OB_23 pd_X21_measureOne (Nat.le_of_ble_eq_true rfl) hd1 (IH _ _ _ _ e44 am) rfl ?_
    refine hr_aload_n hC dX21_measureOne_170 rfl ?_
    refine hr_gA hC F23_23 rfl dX21_measureOne_171 q2865 ?_
    refine hr_iload_n hC dX21_measureOne_174 rfl ?_
    obtain ⟨c47, h⟩ := hk_ok h
    refine hs_iald hC A23_23 c47 dX21_measureOne_175 ?_
    refine hr_if_lt (x := _) hC 267 dX21_measureOne_176 (by decide) (fun c49 => ?_) (fun c49 => ?_)
    · rw [if_pos c49] at h
      obtain rfl := Option.some.inj h
      exact hr_sub _ rfl (J4)
    · rw [if_neg c49] at h
      refine hr_aload_n hC dX21_measureOne_179 rfl ?_
      refine hr_aload_n hC dX21_measureOne_180 rfl ?_
      refine hr_gA hC F23_23 rfl dX21_measureOne_181 q2865 ?_
      refine hr_iload_n hC dX21_measureOne_184 rfl ?_
      obtain ⟨c50, h⟩ := hk_ok h
      refine hs_iald hC A23_23 c50 dX21_measureOne_185 ?_
      obtain ⟨r51, e52, h⟩ := hx_bind h
      refine hs_callV0 hC 23 [_] _ dX21_measureOne_186 q3522 q3524 qs267 q335 q3525 np_X21 rfl OB_23 pd_X21_measureOne (Nat.le_of_ble_eq_true rfl) hd1 (IH _ _ _ _ e52 am) rfl ?_
      refine hr_goto hC 267 dX21_measureOne_189 (by decide) ?_
      obtain rfl := Option.some.inj h
      exact hr_sub _ rfl (J4)
  rw [if_neg c136] at h
  by_cases c137 : (gC σ 23 18 x1).toInt8.toInt32 = 25
  · rw [if_pos c137] at h
    refine hr_tableIn hC 150 dX21_measureOne_6 (by rw [c137] <;> decide) (by rw [c137] <;> decide) (by rw [c137] <;> rfl) (by decide) ?_
    refine hr_aload_n hC dX21_measureOne_150 rfl ?_
    refine hr_aload_n hC dX21_measureOne_151 rfl ?_
    refine hr_gA hC F23_21 rfl dX21_measureOne_152 q2863 ?_
    refine hr_iload_n hC dX21_measureOne_155 rfl ?_
    obtain ⟨c55, h⟩ := hk_ok h
    refine hs_iald hC A23_21 c55 dX21_measureOne_156 ?_
    obtain ⟨r56, e57, h⟩ := hx_bind h
    refine hs_callV0 hC 23 [_] _ dX21_measureOne_157 q3526 q3528 qs268 q335 q3529 np_X21 rfl OB_23 pd_X21_raise (Nat.le_of_ble_eq_true rfl) hd1 (okX21_raise l E A (d - 1) n k0 (by omega)  e57 am) rfl ?_
    refine hr_aload_n hC dX21_measureOne_160 rfl ?_
    refine hr_aload_n hC dX21_measureOne_161 rfl ?_
    refine hr_gA hC F23_22 rfl dX21_measureOne_162 q2864 ?_
    refine hr_iload_n hC dX21_measureOne_165 rfl ?_
    obtain ⟨c60, h⟩ := hk_ok h
    refine hs_iald hC A23_22 c60 dX21_measureOne_166 ?_
    obtain ⟨r61, e62, h⟩ := hx_bind h
    refine hs_callV0 hC 23 [_] _ dX21_measureOne_167 q3522 q3524 qs267 q335 q3525 np_X21 rfl OB_23 pd_X21_measureOne (Nat.le_of_ble_eq_true rfl) hd1 (IH _ _ _ _ e62 am) rfl ?_
    refine hr_aload_n hC dX21_measureOne_170 rfl ?_
    refine hr_gA hC F23_23 rfl dX21_measureOne_171 q2865 ?_
    refine hr_iload_n hC dX21_measureOne_174 rfl ?_
    obtain ⟨c65, h⟩ := hk_ok h
    refine hs_iald hC A23_23 c65 dX21_measureOne_175 ?_
    refine hr_if_lt (x := _) hC 267 dX21_measureOne_176 (by decide) (fun c67 => ?_) (fun c67 => ?_)
    · rw [if_pos c67] at h
      obtain rfl := Option.some.inj h
      exact hr_sub _ rfl (J4)
    · rw [if_neg c67] at h
      refine hr_aload_n hC dX21_measureOne_179 rfl ?_
      refine hr_aload_n hC dX21_measureOne_180 rfl ?_
      refine hr_gA hC F23_23 rfl dX21_measureOne_181 q2865 ?_
      refine hr_iload_n hC dX21_measureOne_184 rfl ?_
      obtain ⟨c68, h⟩ := hk_ok h
      refine hs_iald hC A23_23 c68 dX21_measureOne_185 ?_
      obtain ⟨r69, e70, h⟩ := hx_bind h
      refine hs_callV0 hC 23 [_] _ dX21_measureOne_186 q3522 q3524 qs267 q335 q3525 np_X21 rfl OB_23 pd_X21_measureOne (Nat.le_of_ble_eq_true rfl) hd1 (IH _ _ _ _ e70 am) rfl ?_
      refine hr_goto hC 267 dX21_measureOne_189 (by decide) ?_
      obtain rfl := Option.some.inj h
      exact hr_sub _ rfl (J4)
  rw [if_neg c137] at h
  by_cases c138 : (gC σ 23 18 x1).toInt8.toInt32 = 26
  · rw [if_pos c138] at h
    refine hr_tableIn hC 150 dX21_measureOne_6 (by rw [c138] <;> decide) (by rw [c138] <;> decide) (by rw [c138] <;> rfl) (by decide) ?_
    refine hr_aload_n hC dX21_measureOne_150 rfl ?_
    refine hr_aload_n hC dX21_measureOne_151 rfl ?_
    refine hr_gA hC F23_21 rfl dX21_measureOne_152 q2863 ?_
    refine hr_iload_n hC dX21_measureOne_155 rfl ?_
    obtain ⟨c73, h⟩ := hk_ok h
    refine hs_iald hC A23_21 c73 dX21_measureOne_156 ?_
    obtain ⟨r74, e75, h⟩ := hx_bind h
    refine hs_callV0 hC 23 [_] _ dX21_measureOne_157 q3526 q3528 qs268 q335 q3529 np_X21 rfl OB_23 pd_X21_raise (Nat.le_of_ble_eq_true rfl) hd1 (okX21_raise l E A (d - 1) n k0 (by omega)  e75 am) rfl ?_
    refine hr_aload_n hC dX21_measureOne_160 rfl ?_
    refine hr_aload_n hC dX21_measureOne_161 rfl ?_
    refine hr_gA hC F23_22 rfl dX21_measureOne_162 q2864 ?_
    refine hr_iload_n hC dX21_measureOne_165 rfl ?_
    obtain ⟨c78, h⟩ := hk_ok h
    refine hs_iald hC A23_22 c78 dX21_measureOne_166 ?_
    obtain ⟨r79, e80, h⟩ := hx_bind h
    refine hs_callV0 hC 23 [_] _ dX21_measureOne_167 q3522 q3524 qs267 q335 q3525 np_X21 rfl OB_23 pd_X21_measureOne (Nat.le_of_ble_eq_true rfl) hd1 (IH _ _ _ _ e80 am) rfl ?_
    refine hr_aload_n hC dX21_measureOne_170 rfl ?_
    refine hr_gA hC F23_23 rfl dX21_measureOne_171 q2865 ?_
    refine hr_iload_n hC dX21_measureOne_174 rfl ?_
    obtain ⟨c83, h⟩ := hk_ok h
    refine hs_iald hC A23_23 c83 dX21_measureOne_175 ?_
    refine hr_if_lt (x := _) hC 267 dX21_measureOne_176 (by decide) (fun c85 => ?_) (fun c85 => ?_)
    · rw [if_pos c85] at h
      obtain rfl := Option.some.inj h
      exact hr_sub _ rfl (J4)
    · rw [if_neg c85] at h
      refine hr_aload_n hC dX21_measureOne_179 rfl ?_
      refine hr_aload_n hC dX21_measureOne_180 rfl ?_
      refine hr_gA hC F23_23 rfl dX21_measureOne_181 q2865 ?_
      refine hr_iload_n hC dX21_measureOne_184 rfl ?_
      obtain ⟨c86, h⟩ := hk_ok h
      refine hs_iald hC A23_23 c86 dX21_measureOne_185 ?_
      obtain ⟨r87, e88, h⟩ := hx_bind h
      refine hs_callV0 hC 23 [_] _ dX21_measureOne_186 q3522 q3524 qs267 q335 q3525 np_X21 rfl OB_23 pd_X21_measureOne (Nat.le_of_ble_eq_true rfl) hd1 (IH _ _ _ _ e88 am) rfl ?_
      refine hr_goto hC 267 dX21_measureOne_189 (by decide) ?_
      obtain rfl := Option.some.inj h
      exact hr_sub _ rfl (J4)
  rw [if_neg c138] at h
  by_cases c139 : (gC σ 23 18 x1).toInt8.toInt32 = 27
  · rw [if_pos c139] at h
    refine hr_tableIn hC 192 dX21_measureOne_6 (by rw [c139] <;> decide) (by rw [c139] <;> decide) (by rw [c139] <;> rfl) (by decide) ?_
    refine hr_aload_n hC dX21_measureOne_192 rfl ?_
    refine hr_gA hC F23_21 rfl dX21_measureOne_193 q2863 ?_
    refine hr_iload_n hC dX21_measureOne_196 rfl ?_
    obtain ⟨c91, h⟩ := hk_ok h
    refine hs_iald hC A23_21 c91 dX21_measureOne_197 ?_
    obtain ⟨r94, e95, h⟩ := hx_bind h
    have J96 : hc_At hc_V0 E 3 X 211 [(0, .ref (E.2.1 23)), (1, .int x1)] [] r94 am [] := by
      refine hr_aload_n hC dX21_measureOne_211 rfl ?_
      refine hr_aload_n hC dX21_measureOne_212 rfl ?_
      refine hr_gA hC F23_22 rfl dX21_measureOne_213 q2864 ?_
      refine hr_iload_n hC dX21_measureOne_216 rfl ?_
      obtain ⟨c103, h⟩ := hk_ok h
      refine hs_iald hC A23_22 c103 dX21_measureOne_217 ?_
      obtain ⟨r104, e105, h⟩ := hx_bind h
      refine hs_callV0 hC 23 [_] _ dX21_measureOne_218 q3526 q3528 qs268 q335 q3529 np_X21 rfl OB_23 pd_X21_raise (Nat.le_of_ble_eq_true rfl) hd1 (okX21_raise l E A (d - 1) n k0 (by omega)  e105 am) rfl ?_
      refine hr_aload_n hC dX21_measureOne_221 rfl ?_
      refine hr_aload_n hC dX21_measureOne_222 rfl ?_
      refine hr_gA hC F23_23 rfl dX21_measureOne_223 q2865 ?_
      refine hr_iload_n hC dX21_measureOne_226 rfl ?_
      obtain ⟨c108, h⟩ := hk_ok h
      refine hs_iald hC A23_23 c108 dX21_measureOne_227 ?_
      obtain ⟨r109, e110, h⟩ := hx_bind h
      refine hs_callV0 hC 23 [_] _ dX21_measureOne_228 q3526 q3528 qs268 q335 q3529 np_X21 rfl OB_23 pd_X21_raise (Nat.le_of_ble_eq_true rfl) hd1 (okX21_raise l E A (d - 1) n k0 (by omega)  e110 am) rfl ?_
      refine hr_aload_n hC dX21_measureOne_231 rfl ?_
      refine hr_aload_n hC dX21_measureOne_232 rfl ?_
      refine hr_gA hC F23_24 rfl dX21_measureOne_233 q2866 ?_
      refine hr_iload_n hC dX21_measureOne_236 rfl ?_
      obtain ⟨c113, h⟩ := hk_ok h
      refine hs_iald hC A23_24 c113 dX21_measureOne_237 ?_
      obtain ⟨r114, e115, h⟩ := hx_bind h
      refine hs_callV0 hC 23 [_] _ dX21_measureOne_238 q3522 q3524 qs267 q335 q3525 np_X21 rfl OB_23 pd_X21_measureOne (Nat.le_of_ble_eq_true rfl) hd1 (IH _ _ _ _ e115 am) rfl ?_
      refine hr_goto hC 267 dX21_measureOne_241 (by decide) ?_
      obtain rfl := Option.some.inj h
      exact hr_sub _ rfl (J4)
    clear h
    have h := e95
    refine hr_if_lt (x := _) hC 211 dX21_measureOne_198 (by decide) (fun c93 => ?_) (fun c93 => ?_)
    · rw [if_pos c93] at h
      obtain rfl := Option.some.inj h
      exact hr_sub _ rfl (J96)
    · rw [if_neg c93] at h
      refine hr_aload_n hC dX21_measureOne_201 rfl ?_
      refine hr_aload_n hC dX21_measureOne_202 rfl ?_
      refine hr_gA hC F23_21 rfl dX21_measureOne_203 q2863 ?_
      refine hr_iload_n hC dX21_measureOne_206 rfl ?_
      obtain ⟨c98, h⟩ := hk_ok h
      refine hs_iald hC A23_21 c98 dX21_measureOne_207 ?_
      obtain ⟨r99, e100, h⟩ := hx_bind h
      refine hs_callV0 hC 23 [_] _ dX21_measureOne_208 q3522 q3524 qs267 q335 q3525 np_X21 rfl OB_23 pd_X21_measureOne (Nat.le_of_ble_eq_true rfl) hd1 (IH _ _ _ _ e100 am) rfl ?_
      obtain rfl := Option.some.inj h
      exact hr_sub _ rfl (J96)
  rw [if_neg c139] at h
  by_cases c140 : (gC σ 23 18 x1).toInt8.toInt32 = 28
  · rw [if_pos c140] at h
    refine hr_tableIn hC 244 dX21_measureOne_6 (by rw [c140] <;> decide) (by rw [c140] <;> decide) (by rw [c140] <;> rfl) (by decide) ?_
    refine hr_aload_n hC dX21_measureOne_244 rfl ?_
    refine hr_aload_n hC dX21_measureOne_245 rfl ?_
    refine hr_gA hC F23_21 rfl dX21_measureOne_246 q2863 ?_
    refine hr_iload_n hC dX21_measureOne_249 rfl ?_
    obtain ⟨c118, h⟩ := hk_ok h
    refine hs_iald hC A23_21 c118 dX21_measureOne_250 ?_
    obtain ⟨r119, e120, h⟩ := hx_bind h
    refine hs_callV0 hC 23 [_] _ dX21_measureOne_251 q3526 q3528 qs268 q335 q3529 np_X21 rfl OB_23 pd_X21_raise (Nat.le_of_ble_eq_true rfl) hd1 (okX21_raise l E A (d - 1) n k0 (by omega)  e120 am) rfl ?_
    refine hr_aload_n hC dX21_measureOne_254 rfl ?_
    refine hr_aload_n hC dX21_measureOne_255 rfl ?_
    refine hr_gA hC F23_22 rfl dX21_measureOne_256 q2864 ?_
    refine hr_iload_n hC dX21_measureOne_259 rfl ?_
    obtain ⟨c123, h⟩ := hk_ok h
    refine hs_iald hC A23_22 c123 dX21_measureOne_260 ?_
    obtain ⟨r124, e125, h⟩ := hx_bind h
    refine hs_callV0 hC 23 [_] _ dX21_measureOne_261 q3518 q3520 qs266 q335 q3521 np_X21 rfl OB_23 pd_X21_measure (Nat.le_of_ble_eq_true rfl) hd1 (IH _ _ _ _ e125 am) rfl ?_
    refine hr_goto hC 267 dX21_measureOne_264 (by decide) ?_
    obtain rfl := Option.some.inj h
    exact hr_sub _ rfl (J4)
  rw [if_neg c140] at h
  by_cases c141 : (gC σ 23 18 x1).toInt8.toInt32 = 33
  · rw [if_pos c141] at h
    refine hr_tableIn hC 89 dX21_measureOne_6 (by rw [c141] <;> decide) (by rw [c141] <;> decide) (by rw [c141] <;> rfl) (by decide) ?_
    refine hr_aload_n hC dX21_measureOne_89 rfl ?_
    refine hr_aload_n hC dX21_measureOne_90 rfl ?_
    refine hr_gA hC F23_21 rfl dX21_measureOne_91 q2863 ?_
    refine hr_iload_n hC dX21_measureOne_94 rfl ?_
    obtain ⟨c128, h⟩ := hk_ok h
    refine hs_iald hC A23_21 c128 dX21_measureOne_95 ?_
    obtain ⟨r129, e130, h⟩ := hx_bind h
    refine hs_callV0 hC 23 [_] _ dX21_measureOne_96 q3526 q3528 qs268 q335 q3529 np_X21 rfl OB_23 pd_X21_raise (Nat.le_of_ble_eq_true rfl) hd1 (okX21_raise l E A (d - 1) n k0 (by omega)  e130 am) rfl ?_
    refine hr_goto hC 267 dX21_measureOne_99 (by decide) ?_
    obtain rfl := Option.some.inj h
    exact hr_sub _ rfl (J4)
  rw [if_neg c141] at h
  refine hr_tableD hC 267 dX21_measureOne_6 (ks := [20, 22, 23, 24, 25, 26, 27, 28, 33]) (hc_l1 (hc_ne c133 rfl) (hc_l1 (hc_ne c134 rfl) (hc_l1 (hc_ne c135 rfl) (hc_l1 (hc_ne c136 rfl) (hc_l1 (hc_ne c137 rfl) (hc_l1 (hc_ne c138 rfl) (hc_l1 (hc_ne c139 rfl) (hc_l1 (hc_ne c140 rfl) (hc_l1 (hc_ne c141 rfl) hc_l0))))))))) (by decide) (by decide) (by decide) ?_
  obtain rfl := Option.some.inj h
  exact hr_sub _ rfl (J4)
def rc_X21_measure (n : Nat) (k0 : Nat) : Nat → Nat → List Int32 → hc_St → Option (Int32 × hc_St)
  | 0, _, _, _ => none
  | k + 1, w, a, σ => match w with
    | 0 => bd_X21_measure n k0 (rc_X21_measure n k0 k) (a.getD 0 0) σ
    | 1 => bd_X21_measureOne n k0 (rc_X21_measure n k0 k) (a.getD 0 0) σ
    | _ => none
theorem okr_X21_measure (l : Launch) (E : hc_E) (A : Nat → Prop) (n : Nat) (k0 : Nat) : ∀ (k d : Nat), k + 1 * k0 + 12 ≤ d → ∀ (w : Nat) (a : List Int32) (σ : hc_St) (r : (Int32 × hc_St)), rc_X21_measure n k0 k w a σ = some r → ∀ am, okg_X21_measure l E A d am w a σ r
  | 0, d, _, w, a, σ, r, h, am => by cases h
  | k + 1, d, hd, w, a, σ, r, h, am => by
    have IH := okr_X21_measure l E A n k0 k (d - 1) (by omega)
    match w, h with
    | 0, h => exact okbX21_measure l E A d (kk := k) n k0 (rc_X21_measure n k0 k) (by omega) IH h am
    | 1, h => exact okbX21_measureOne l E A d (kk := k) n k0 (rc_X21_measure n k0 k) (by omega) IH h am
    | w + 2, h => trivial
def fm_X21_measure (n : Nat) (k0 : Nat) (x1 : Int32) (σ : hc_St) : Option (Int32 × hc_St) := rc_X21_measure n k0 k0 0 [x1] σ
theorem okX21_measure (l : Launch) (E : hc_E) (A : Nat → Prop) (d : Nat) (n : Nat) (k0 : Nat) (hD : k0 + 1 * k0 + 12 ≤ d)  {x1 : Int32} {σ : hc_St} {r : (Int32 × hc_St)} (h : fm_X21_measure n k0 x1 σ = some r) (am : Nat → Nat → Nat) : hc_M l hc_V0 yX21_measure (ws_ yX21_measure cX21_measure 3 none) d E A [.ref (E.2.1 23), .int x1] am [] σ (.inl (none)) r.2 := okr_X21_measure l E A n k0 k0 d hD 0 _ _ _ h am
def fm_X21_measureOne (n : Nat) (k0 : Nat) (x1 : Int32) (σ : hc_St) : Option (Int32 × hc_St) := rc_X21_measure n k0 k0 1 [x1] σ
theorem okX21_measureOne (l : Launch) (E : hc_E) (A : Nat → Prop) (d : Nat) (n : Nat) (k0 : Nat) (hD : k0 + 1 * k0 + 12 ≤ d)  {x1 : Int32} {σ : hc_St} {r : (Int32 × hc_St)} (h : fm_X21_measureOne n k0 x1 σ = some r) (am : Nat → Nat → Nat) : hc_M l hc_V0 yX21_measureOne (ws_ yX21_measureOne cX21_measureOne 3 none) d E A [.ref (E.2.1 23), .int x1] am [] σ (.inl (none)) r.2 := okr_X21_measure l E A n k0 k0 d hD 1 _ _ _ h am
