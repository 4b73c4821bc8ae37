set_option maxRecDepth 20000
/-- HomeCompiler$Generator.variable(I)V -/
def fm_X13_variable (n : Nat) (k0 : Nat) (x1 : Int32) (σ : hc_St) : Option hc_St := Option.bind (fm_X6_extra x1 σ) fun r1 => Option.bind (fm_X6_first x1 σ) fun r5 => Option.bind (fm_X6_op x1 σ) fun r9 => Option.bind (α := hc_St) (if r9 = 1 then (Option.bind (fm_X6_next r5 σ) fun r38 => Option.bind (fm_X13_array n r1 r38 σ) fun r42 => some (r42)) else (Option.bind (α := hc_St × Int32) (if r5 = (-1) then (some (σ, 0)) else (Option.bind (fm_X6_first r5 σ) fun r25 => Option.bind (fm_X13_value n k0 r25 0 σ) fun r29 => some (r29.2, r29.1))) fun r21 => Option.bind (fm_X13_assign r1 r21.2 0 r21.1) fun r34 => some (r34.2))) fun r15 => some r15
set_option maxRecDepth 20000 in
set_option maxHeartbeats 4000000 in
theorem okX13_variable (l : Launch) (E : hc_E) (A : Nat → Prop) (d : Nat) (n : Nat) (k0 : Nat) (hD : 2 * k0 + 14 ≤ d) {x1 : Int32} {σ : hc_St} {r : hc_St} (h : fm_X13_variable n k0 x1 σ = some r) (am : Nat → Nat → Nat) : hc_M l hc_V0 yX13_variable (ws_ yX13_variable cX13_variable 5 none) d E A [.ref (E.2.1 14), .int x1] am [13] σ (.inl none) r := by
  have hd1 : 1 ≤ d := by omega
  have hd8 : 9 ≤ d := by omega
  have hd12 : 12 ≤ d := by omega
  refine hc_enter2 (own := RX13) [(0, .ref (E.2.1 14)), (1, .int x1)] pl_X13 rfl hc_V0_st hc_G0_nd rfl (Nat.le_of_ble_eq_true rfl) (fun X hC hem => ?_)
  unfold fm_X13_variable at h
  refine hr_aload_n hC dX13_variable_0 rfl ?_
  refine hr_gO 6 hC F14_0 rfl dX13_variable_1 q795 ?_
  refine hr_iload_n hC dX13_variable_4 rfl ?_
  obtain ⟨r1, e2, h⟩ := hx_bind h
  refine hs_callV0 hC 6 [_] _ dX13_variable_5 q2043 q1687 q1688 q320 q1689 np_X6 rfl OB_6 pd_X6_extra (Nat.le_of_ble_eq_true rfl) hd1 (okX6_extra l E A (d - 1)  (by omega)  e2 am) rfl ?_
  refine hr_istore_n hC dX13_variable_8 (by decide) ?_
  refine hr_aload_n hC dX13_variable_9 rfl ?_
  refine hr_gO 6 hC F14_0 rfl dX13_variable_10 q795 ?_
  refine hr_iload_n hC dX13_variable_13 rfl ?_
  obtain ⟨r5, e6, h⟩ := hx_bind h
  refine hs_callV0 hC 6 [_] _ dX13_variable_14 q2048 q1576 q1577 q320 q1578 np_X6 rfl OB_6 pd_X6_first (Nat.le_of_ble_eq_true rfl) hd1 (okX6_first l E A (d - 1)  (by omega)  e6 am) rfl ?_
  refine hr_istore_n hC dX13_variable_17 (by decide) ?_
  refine hr_aload_n hC dX13_variable_18 rfl ?_
  refine hr_gO 6 hC F14_0 rfl dX13_variable_19 q795 ?_
  refine hr_iload_n hC dX13_variable_22 rfl ?_
  obtain ⟨r9, e10, h⟩ := hx_bind h
  refine hs_callV0 hC 6 [_] _ dX13_variable_23 q1978 q1639 q1640 q320 q1641 np_X6 rfl OB_6 pd_X6_op (Nat.le_of_ble_eq_true rfl) hd1 (okX6_op l E A (d - 1)  (by omega)  e10 am) rfl ?_
  refine hr_iconst (v := 1) hC dX13_variable_26 rfl ?_
  obtain ⟨r15, e16, h⟩ := hx_bind h
  have J17 : ∀ am46, hc_At hc_V0 E 5 X 79 [] [] r15 am46 [] := by
    intro am46
    obtain rfl := Option.some.inj h
    exact hr_vret hC dX13_variable_79
  clear h
  have h := e16
  refine hr_icmp_ne (x := _) hC 46 dX13_variable_27 (by decide) (fun c14 => ?_) (fun c14 => ?_)
  · rw [if_neg c14] at h
    refine hr_iload_n hC dX13_variable_46 rfl ?_
    refine hr_iconst (v := (-1)) hC dX13_variable_47 rfl ?_
    obtain ⟨r21, e22, h⟩ := hx_bind h
    have J23 : ∀ am33, hc_At hc_V0 E 5 X 68 [(0, .ref (E.2.1 14)), (2, .int r1)] [.int r21.2] r21.1 am33 [] := by
      intro am33
      refine hr_istore hC dX13_variable_68 (by decide) ?_
      refine hr_aload_n hC dX13_variable_70 rfl ?_
      refine hr_iload_n hC dX13_variable_71 rfl ?_
      refine hr_iload hC dX13_variable_72 rfl ?_
      refine hr_iconst (v := 0) hC dX13_variable_74 rfl ?_
      obtain ⟨r34, e35, h⟩ := hx_bind h
      refine hs_callV hC 14 [_, _, _] _ dX13_variable_75 q2242 q2244 qs135 q327 q2245 np_X13 rfl OB_14 pd_X13_assign (Nat.le_of_ble_eq_true rfl) hd1 (okX13_assign l E A (d - 1)  (by omega)  e35 am33) (hc_rb rfl) rfl (fun am36 ha37 => ?_)
      refine hr_pop hC dX13_variable_78 rfl ?_
      obtain rfl := Option.some.inj h
      exact hr_sub _ rfl (J17 am36)
    clear h
    have h := e22
    refine hr_icmp_ne (x := _) hC 55 dX13_variable_48 (by decide) (fun c20 => ?_) (fun c20 => ?_)
    · rw [if_neg c20] at h
      refine hr_aload_n hC dX13_variable_55 rfl ?_
      refine hr_aload_n hC dX13_variable_56 rfl ?_
      refine hr_gO 6 hC F14_0 rfl dX13_variable_57 q795 ?_
      refine hr_iload_n hC dX13_variable_60 rfl ?_
      obtain ⟨r25, e26, h⟩ := hx_bind h
      refine hs_callV0 hC 6 [_] _ dX13_variable_61 q2048 q1576 q1577 q320 q1578 np_X6 rfl OB_6 pd_X6_first (Nat.le_of_ble_eq_true rfl) hd1 (okX6_first l E A (d - 1)  (by omega)  e26 am) rfl ?_
      refine hr_iconst (v := 0) hC dX13_variable_64 rfl ?_
      obtain ⟨r29, e30, h⟩ := hx_bind h
      refine hs_callV hC 14 [_, _] _ dX13_variable_65 q2101 q2103 qs112 q327 q2104 np_X13 rfl OB_14 pd_X13_value (Nat.le_of_ble_eq_true rfl) hd1 (okX13_value l E A (d - 1) n k0 (by omega)  e30 am) (hc_rb rfl) rfl (fun am31 ha32 => ?_)
      obtain rfl := Option.some.inj h
      exact hr_sub _ rfl (J23 am31)
    · rw [if_pos c20] at h
      refine hr_iconst (v := 0) hC dX13_variable_51 rfl ?_
      refine hr_goto hC 68 dX13_variable_52 (by decide) ?_
      obtain rfl := Option.some.inj h
      exact hr_sub _ rfl (J23 am)
  · rw [if_pos c14] at h
    refine hr_aload_n hC dX13_variable_30 rfl ?_
    refine hr_iload_n hC dX13_variable_31 rfl ?_
    refine hr_aload_n hC dX13_variable_32 rfl ?_
    refine hr_gO 6 hC F14_0 rfl dX13_variable_33 q795 ?_
    refine hr_iload_n hC dX13_variable_36 rfl ?_
    obtain ⟨r38, e39, h⟩ := hx_bind h
    refine hs_callV0 hC 6 [_] _ dX13_variable_37 q2068 q1603 q1604 q320 q1605 np_X6 rfl OB_6 pd_X6_next (Nat.le_of_ble_eq_true rfl) hd1 (okX6_next l E A (d - 1)  (by omega)  e39 am) rfl ?_
    obtain ⟨r42, e43, h⟩ := hx_bind h
    refine hs_callV hC 14 [_, _] _ dX13_variable_40 q2081 q2083 qs110 q327 q2084 np_X13 rfl OB_14 pd_X13_array (Nat.le_of_ble_eq_true rfl) hd1 (okX13_array l E A (d - 1) n (by omega)  e43 am) (hc_rb rfl) rfl (fun am44 ha45 => ?_)
    refine hr_goto hC 79 dX13_variable_43 (by decide) ?_
    obtain rfl := Option.some.inj h
    exact hr_sub _ rfl (J17 am44)
/-- HomeCompiler$Generator.returning(I)V -/
def fm_X13_returning (n : Nat) (k0 : Nat) (x1 : Int32) (σ : hc_St) : Option hc_St := Option.bind (α := hc_St) (if x1 = (-1) then (Option.bind (fm_X12_move 10 0 σ) fun r25 => some (r25)) else (Option.bind (fm_X13_value n k0 x1 0 σ) fun r7 => Option.bind (fm_X13_use r7.1 5 r7.2) fun r11 => if (gI r11.2 14 13) = 1 then (Option.bind (fm_X12_number 7 10 r11.1 255 r11.2) fun r21 => some (r21)) else (Option.bind (fm_X12_move 10 r11.1 r11.2) fun r17 => some (r17)))) fun r3 => Option.bind (fm_X12_jump 0 ((gI r3 14 12)) r3) fun r30 => some r30
set_option maxRecDepth 20000 in
set_option maxHeartbeats 4000000 in
theorem okX13_returning (l : Launch) (E : hc_E) (A : Nat → Prop) (d : Nat) (n : Nat) (k0 : Nat) (hD : 2 * k0 + 14 ≤ d) {x1 : Int32} {σ : hc_St} {r : hc_St} (h : fm_X13_returning n k0 x1 σ = some r) (am : Nat → Nat → Nat) : hc_M l hc_V0 yX13_returning (ws_ yX13_returning cX13_returning 3 none) d E A [.ref (E.2.1 14), .int x1] am [13] σ (.inl none) r := by
  have hd1 : 1 ≤ d := by omega
  have hd8 : 9 ≤ d := by omega
  have hd12 : 12 ≤ d := by omega
  refine hc_enter2 (own := RX13) [(0, .ref (E.2.1 14)), (1, .int x1)] pl_X13 rfl hc_V0_st hc_G0_nd rfl (Nat.le_of_ble_eq_true rfl) (fun X hC hem => ?_)
  unfold fm_X13_returning at h
  refine hr_iload_n hC dX13_returning_0 rfl ?_
  refine hr_iconst (v := (-1)) hC dX13_returning_1 rfl ?_
  obtain ⟨r3, e4, h⟩ := hx_bind h
  have J5 : ∀ am29, hc_At hc_V0 E 3 X 66 [(0, .ref (E.2.1 14))] [] r3 am29 [] := by
    intro am29
    refine hr_aload_n hC dX13_returning_66 rfl ?_
    refine hr_gO 13 hC F14_5 rfl dX13_returning_67 q800 ?_
    refine hr_iconst (v := 0) hC dX13_returning_70 rfl ?_
    refine hr_aload_n hC dX13_returning_71 rfl ?_
    refine hr_gI hC F14_12 dX13_returning_72 q807 ?_
    obtain ⟨r30, e31, h⟩ := hx_bind h
    refine hs_callV hC 13 [_, _] _ dX13_returning_75 q1904 q1905 q1906 q326 q1907 np_X12 rfl OB_13 pd_X12_jump (Nat.le_of_ble_eq_true rfl) hd1 (okX12_jump l E A (d - 1)  (by omega)  e31 am29) (hc_rb rfl) rfl (fun am32 ha33 => ?_)
    obtain rfl := Option.some.inj h
    exact hr_vret hC dX13_returning_78
  clear h
  have h := e4
  refine hr_icmp_ne (x := _) hC 18 dX13_returning_2 (by decide) (fun c2 => ?_) (fun c2 => ?_)
  · rw [if_neg c2] at h
    refine hr_aload_n hC dX13_returning_18 rfl ?_
    refine hr_aload_n hC dX13_returning_19 rfl ?_
    refine hr_iload_n hC dX13_returning_20 rfl ?_
    refine hr_iconst (v := 0) hC dX13_returning_21 rfl ?_
    obtain ⟨r7, e8, h⟩ := hx_bind h
    refine hs_callV hC 14 [_, _] _ dX13_returning_22 q2101 q2103 qs112 q327 q2104 np_X13 rfl OB_14 pd_X13_value (Nat.le_of_ble_eq_true rfl) hd1 (okX13_value l E A (d - 1) n k0 (by omega)  e8 am) (hc_rb rfl) rfl (fun am9 ha10 => ?_)
    refine hr_iconst (v := 5) hC dX13_returning_25 rfl ?_
    obtain ⟨r11, e12, h⟩ := hx_bind h
    refine hs_callV hC 14 [_, _] _ dX13_returning_26 q2167 q2169 qs121 q327 q2170 np_X13 rfl OB_14 pd_X13_use (Nat.le_of_ble_eq_true rfl) hd1 (okX13_use l E A (d - 1)  (by omega)  e12 am9) (hc_rb rfl) rfl (fun am13 ha14 => ?_)
    refine hr_istore_n hC dX13_returning_29 (by decide) ?_
    refine hr_aload_n hC dX13_returning_30 rfl ?_
    refine hr_gI hC F14_13 dX13_returning_31 q808 ?_
    refine hr_iconst (v := 1) hC dX13_returning_34 rfl ?_
    refine hr_icmp_ne (x := _) hC 56 dX13_returning_35 (by decide) (fun c16 => ?_) (fun c16 => ?_)
    · rw [if_neg c16] at h
      refine hr_aload_n hC dX13_returning_56 rfl ?_
      refine hr_gO 13 hC F14_5 rfl dX13_returning_57 q800 ?_
      refine hr_bipush (v := 10) hC dX13_returning_60 rfl ?_
      refine hr_iload_n hC dX13_returning_62 rfl ?_
      obtain ⟨r17, e18, h⟩ := hx_bind h
      refine hs_callV hC 13 [_, _] _ dX13_returning_63 q2007 q2008 q2009 q326 q2010 np_X12 rfl OB_13 pd_X12_move (Nat.le_of_ble_eq_true rfl) hd1 (okX12_move l E A (d - 1)  (by omega)  e18 am13) (hc_rb rfl) rfl (fun am19 ha20 => ?_)
      obtain rfl := Option.some.inj h
      exact hr_sub _ rfl (J5 am19)
    · rw [if_pos c16] at h
      refine hr_aload_n hC dX13_returning_38 rfl ?_
      refine hr_gO 13 hC F14_5 rfl dX13_returning_39 q800 ?_
      refine hr_bipush (v := 7) hC dX13_returning_42 rfl ?_
      refine hr_bipush (v := 10) hC dX13_returning_44 rfl ?_
      refine hr_iload_n hC dX13_returning_46 rfl ?_
      refine hr_sipush (v := 255) hC dX13_returning_47 rfl ?_
      obtain ⟨r21, e22, h⟩ := hx_bind h
      refine hs_callV hC 13 [_, _, _, _] _ dX13_returning_50 q1992 q1913 q1914 q326 q1915 np_X12 rfl OB_13 pd_X12_number (Nat.le_of_ble_eq_true rfl) hd1 (okX12_number l E A (d - 1)  (by omega)  e22 am13) (hc_rb rfl) rfl (fun am23 ha24 => ?_)
      refine hr_goto hC 66 dX13_returning_53 (by decide) ?_
      obtain rfl := Option.some.inj h
      exact hr_sub _ rfl (J5 am23)
  · rw [if_pos c2] at h
    refine hr_aload_n hC dX13_returning_5 rfl ?_
    refine hr_gO 13 hC F14_5 rfl dX13_returning_6 q800 ?_
    refine hr_bipush (v := 10) hC dX13_returning_9 rfl ?_
    refine hr_iconst (v := 0) hC dX13_returning_11 rfl ?_
    obtain ⟨r25, e26, h⟩ := hx_bind h
    refine hs_callV hC 13 [_, _] _ dX13_returning_12 q2007 q2008 q2009 q326 q2010 np_X12 rfl OB_13 pd_X12_move (Nat.le_of_ble_eq_true rfl) hd1 (okX12_move l E A (d - 1)  (by omega)  e26 am) (hc_rb rfl) rfl (fun am27 ha28 => ?_)
    refine hr_goto hC 66 dX13_returning_15 (by decide) ?_
    obtain rfl := Option.some.inj h
    exact hr_sub _ rfl (J5 am27)
def okg_X13_statements (l : Launch) (E : hc_E) (A : Nat → Prop) (d : Nat) (am : Nat → Nat → Nat) (w : Nat) (a : List Int32) (σ : hc_St) (r : (Int32 × hc_St)) : Prop := match w with
  | 0 => hc_M l hc_V0 yX13_statements (ws_ yX13_statements cX13_statements 3 none) d E A [.ref (E.2.1 14), .int (a.getD 0 0)] am [13] σ (.inl (none)) r.2
  | 1 => hc_M l hc_V0 yX13_statement (ws_ yX13_statement cX13_statement 4 none) d E A [.ref (E.2.1 14), .int (a.getD 0 0)] am [13] σ (.inl (none)) r.2
  | 2 => hc_M l hc_V0 yX13_choosing (ws_ yX13_choosing cX13_choosing 6 none) d E A [.ref (E.2.1 14), .int (a.getD 0 0)] am [13] σ (.inl (none)) r.2
  | 3 => hc_M l hc_V0 yX13_looping (ws_ yX13_looping cX13_looping 9 none) d E A [.ref (E.2.1 14), .int (a.getD 0 0), .int (a.getD 1 0), .int (a.getD 2 0), .int (a.getD 3 0)] am [13] σ (.inl (none)) r.2
  | 4 => hc_M l hc_V0 yX13_counting (ws_ yX13_counting cX13_counting 4 none) d E A [.ref (E.2.1 14), .int (a.getD 0 0)] am [13] σ (.inl (none)) r.2
  | 5 => hc_M l hc_V0 yX13_switching (ws_ yX13_switching cX13_switching 7 none) d E A [.ref (E.2.1 14), .int (a.getD 0 0), .int (a.getD 1 0)] am [13] σ (.inl (none)) r.2
  | _ => True
def lp_X13_statements_9 (n : Nat) (k0 : Nat) (rec : Nat → List Int32 → hc_St → Option (Int32 × hc_St)) : Nat → Int32 → hc_St → Option (hc_St)
  | 0, _, _ => none
  | m + 1, y2, σ => if y2 = (-1) then (some (σ)) else (Option.bind (rec 1 [y2] σ) fun r7 => Option.bind (fm_X6_next y2 r7.2) fun r11 => lp_X13_statements_9 n k0 rec m r11 r7.2)
/-- HomeCompiler$Generator.statements(I)V -/
def bd_X13_statements (n : Nat) (k0 : Nat) (rec : Nat → List Int32 → hc_St → Option (Int32 × hc_St)) (x1 : Int32) (σ : hc_St) : Option (Int32 × hc_St) := Option.bind (fm_X6_first x1 σ) fun r1 => Option.bind (lp_X13_statements_9 n k0 rec n r1 σ) fun r15 => some (0, r15)
set_option maxRecDepth 20000 in
set_option maxHeartbeats 4000000 in
theorem ll_X13_statements_9 {l : Launch} {E : hc_E} {A : Nat → Prop} {am : Nat → Nat → Nat} {d : Nat} {kk : Nat} {X : hc_X} (n : Nat) (k0 : Nat) (rec : Nat → List Int32 → hc_St → Option (Int32 × hc_St)) (hD : kk + 2 * k0 + 15 ≤ d) (hem : X.2.2.2.2.2.2.2.2.2.1.exceptionTable.isEmpty = true) (IH : ∀ (w : Nat) (a : List Int32) (σ : hc_St) (r : (Int32 × hc_St)), rec w a σ = some r → ∀ am, okg_X13_statements l E A (d - 1) am w a σ r) {oc : hc_Oc} {σe : hc_St} (hC : hc_C hc_V0 E cX13_statements 3 RX13 none d oc σe (l, A, am, [13]) X) : ∀ (m : Nat) (σ : hc_St) (y2 : Int32) (rl : hc_St), lp_X13_statements_9 n k0 rec m y2 σ = some rl → (∀ am1, hc_At hc_V0 E 3 X 31 [] [] rl am1 []) → ∀ am1, hc_At hc_V0 E 3 X 9 [(0, .ref (E.2.1 14)), (2, .int y2)] [] σ am1 [] := by
  have hd1 : 1 ≤ d := by omega
  have hd8 : 9 ≤ d := by omega
  have hd12 : 12 ≤ d := by omega
  intro m
  induction m with
  | zero =>
    intro σ y2 rl h
    cases h
  | succ m ih =>
    intro σ y2 rl h JX am1
    rw [lp_X13_statements_9] at h
    refine hr_iload_n hC dX13_statements_9 rfl ?_
    refine hr_iconst (v := (-1)) hC dX13_statements_10 rfl ?_
    refine hr_icmp_eq (x := _) hC 31 dX13_statements_11 (by decide) (fun c6 => ?_) (fun c6 => ?_)
    · rw [if_pos c6] at h
      obtain rfl := Option.some.inj h
      exact hr_sub _ rfl (JX am1)
    · rw [if_neg c6] at h
      refine hr_aload_n hC dX13_statements_14 rfl ?_
      refine hr_iload_n hC dX13_statements_15 rfl ?_
      obtain ⟨r7, e8, h⟩ := hx_bind h
      refine hs_callV hC 14 [_] _ dX13_statements_16 q2073 q2075 qs108 q327 q2076 np_X13 rfl OB_14 pd_X13_statement (Nat.le_of_ble_eq_true rfl) hd1 (IH _ _ _ _ e8 am1) (hc_rb rfl) rfl (fun am9 ha10 => ?_)
      refine hr_aload_n hC dX13_statements_19 rfl ?_
      refine hr_gO 6 hC F14_0 rfl dX13_statements_20 q795 ?_
      refine hr_iload_n hC dX13_statements_23 rfl ?_
      obtain ⟨r11, e12, h⟩ := hx_bind h
      refine hs_callV0 hC 6 [_] _ dX13_statements_24 q2068 q1603 q1604 q320 q1605 np_X6 rfl OB_6 pd_X6_next (Nat.le_of_ble_eq_true rfl) hd1 (okX6_next l E A (d - 1)  (by omega)  e12 am9) rfl ?_
      refine hr_istore_n hC dX13_statements_27 (by decide) ?_
      refine hr_goto hC 9 dX13_statements_28 (by decide) ?_
      exact hr_sub _ rfl (ih _ _ _ h JX am9)
set_option maxRecDepth 20000 in
set_option maxHeartbeats 4000000 in
theorem okbX13_statements (l : Launch) (E : hc_E) (A : Nat → Prop) (d : Nat) {kk : Nat} (n : Nat) (k0 : Nat) (rec : Nat → List Int32 → hc_St → Option (Int32 × hc_St)) (hD : kk + 2 * k0 + 15 ≤ d) (IH : ∀ (w : Nat) (a : List Int32) (σ : hc_St) (r : (Int32 × hc_St)), rec w a σ = some r → ∀ am, okg_X13_statements l E A (d - 1) am w a σ r) {x1 : Int32} {σ : hc_St} {r : (Int32 × hc_St)} (h : bd_X13_statements n k0 rec x1 σ = some r) (am : Nat → Nat → Nat) : hc_M l hc_V0 yX13_statements (ws_ yX13_statements cX13_statements 3 none) d E A [.ref (E.2.1 14), .int x1] am [13] σ (.inl (none)) r.2 := by
  have hd1 : 1 ≤ d := by omega
  have hd8 : 9 ≤ d := by omega
  have hd12 : 12 ≤ d := by omega
  refine hc_enter2 (own := RX13) [(0, .ref (E.2.1 14)), (1, .int x1)] pl_X13 rfl hc_V0_st hc_G0_nd rfl (Nat.le_of_ble_eq_true rfl) (fun X hC hem => ?_)
  unfold bd_X13_statements at h
  refine hr_aload_n hC dX13_statements_0 rfl ?_
  refine hr_gO 6 hC F14_0 rfl dX13_statements_1 q795 ?_
  refine hr_iload_n hC dX13_statements_4 rfl ?_
  obtain ⟨r1, e2, h⟩ := hx_bind h
  refine hs_callV0 hC 6 [_] _ dX13_statements_5 q2048 q1576 q1577 q320 q1578 np_X6 rfl OB_6 pd_X6_first (Nat.le_of_ble_eq_true rfl) hd1 (okX6_first l E A (d - 1)  (by omega)  e2 am) rfl ?_
  refine hr_istore_n hC dX13_statements_8 (by decide) ?_
  obtain ⟨r15, e16, h⟩ := hx_bind h
  refine hr_sub _ rfl (ll_X13_statements_9 n k0 rec hD hem IH hC n _ _ _ e16 (fun am19 => ?_) am)
  obtain rfl := Option.some.inj h
  exact hr_vret hC dX13_statements_31
def lp_X13_statement_110 (n : Nat) (k0 : Nat) (rec : Nat → List Int32 → hc_St → Option (Int32 × hc_St)) : Nat → Int32 → hc_St → Option (hc_St)
  | 0, _, _ => none
  | m + 1, y3, σ => if y3 = (-1) then (some (σ)) else (Option.bind (fm_X13_variable n k0 y3 σ) fun r15 => Option.bind (fm_X6_next y3 r15) fun r19 => lp_X13_statement_110 n k0 rec m r19 r15)
/-- HomeCompiler$Generator.statement(I)V -/
def bd_X13_statement (n : Nat) (k0 : Nat) (rec : Nat → List Int32 → hc_St → Option (Int32 × hc_St)) (x1 : Int32) (σ : hc_St) : Option (Int32 × hc_St) := Option.bind (fm_X6_first x1 σ) fun r1 => Option.bind (fm_X6_kind x1 σ) fun r5 => Option.bind (α := hc_St) (if r5 = 6 then (Option.bind (lp_X13_statement_110 n k0 rec n r1 σ) fun r23 => some (r23)) else if r5 = 10 then (Option.bind (rec 0 [x1] σ) fun r28 => some (r28.2)) else if r5 = 12 then (Option.bind (fm_X13_value n k0 r1 0 σ) fun r32 => some (r32.2)) else if r5 = 13 then (Option.bind (rec 2 [r1] σ) fun r36 => some (r36.2)) else if r5 = 14 then (Option.bind (fm_X6_next r1 σ) fun r40 => Option.bind (rec 3 [r1, ((-1)), r40, 1] σ) fun r44 => some (r44.2)) else if r5 = 15 then (Option.bind (fm_X6_next r1 σ) fun r48 => Option.bind (rec 3 [r48, ((-1)), r1, 0] σ) fun r52 => some (r52.2)) else if r5 = 16 then (Option.bind (rec 4 [r1] σ) fun r56 => some (r56.2)) else if r5 = 17 then (Option.bind (rec 5 [x1, r1] σ) fun r60 => some (r60.2)) else if r5 = 20 then (Option.bind (fm_X12_jump 0 ((gI σ 14 14)) σ) fun r64 => some (r64)) else if r5 = 21 then (Option.bind (fm_X12_jump 0 ((gI σ 14 15)) σ) fun r68 => some (r68)) else if r5 = 22 then (Option.bind (fm_X13_returning n k0 r1 σ) fun r72 => some (r72)) else (some (σ))) fun r9 => some (0, r9)
set_option maxRecDepth 20000 in
set_option maxHeartbeats 4000000 in
theorem ll_X13_statement_110 {l : Launch} {E : hc_E} {A : Nat → Prop} {am : Nat → Nat → Nat} {d : Nat} {kk : Nat} {X : hc_X} (n : Nat) (k0 : Nat) (rec : Nat → List Int32 → hc_St → Option (Int32 × hc_St)) (hD : kk + 2 * k0 + 15 ≤ d) (hem : X.2.2.2.2.2.2.2.2.2.1.exceptionTable.isEmpty = true) (IH : ∀ (w : Nat) (a : List Int32) (σ : hc_St) (r : (Int32 × hc_St)), rec w a σ = some r → ∀ am, okg_X13_statements l E A (d - 1) am w a σ r) {oc : hc_Oc} {σe : hc_St} (hC : hc_C hc_V0 E cX13_statement 4 RX13 none d oc σe (l, A, am, [13]) X) : ∀ (m : Nat) (σ : hc_St) (y3 : Int32) (rl : hc_St), lp_X13_statement_110 n k0 rec m y3 σ = some rl → (∀ am1, hc_At hc_V0 E 4 X 132 [] [] rl am1 []) → ∀ am1, hc_At hc_V0 E 4 X 110 [(0, .ref (E.2.1 14)), (3, .int y3)] [] σ am1 [] := by
  have hd1 : 1 ≤ d := by omega
  have hd8 : 9 ≤ d := by omega
  have hd12 : 12 ≤ d := by omega
  intro m
  induction m with
  | zero =>
    intro σ y3 rl h
    cases h
  | succ m ih =>
    intro σ y3 rl h JX am1
    rw [lp_X13_statement_110] at h
    refine hr_iload_n hC dX13_statement_110 rfl ?_
    refine hr_iconst (v := (-1)) hC dX13_statement_111 rfl ?_
    refine hr_icmp_eq (x := _) hC 132 dX13_statement_112 (by decide) (fun c14 => ?_) (fun c14 => ?_)
    · rw [if_pos c14] at h
      obtain rfl := Option.some.inj h
      exact hr_sub _ rfl (JX am1)
    · rw [if_neg c14] at h
      refine hr_aload_n hC dX13_statement_115 rfl ?_
      refine hr_iload_n hC dX13_statement_116 rfl ?_
      obtain ⟨r15, e16, h⟩ := hx_bind h
      refine hs_callV hC 14 [_] _ dX13_statement_117 q2077 q2079 qs109 q327 q2080 np_X13 rfl OB_14 pd_X13_variable (Nat.le_of_ble_eq_true rfl) hd1 (okX13_variable l E A (d - 1) n k0 (by omega)  e16 am1) (hc_rb rfl) rfl (fun am17 ha18 => ?_)
      refine hr_aload_n hC dX13_statement_120 rfl ?_
      refine hr_gO 6 hC F14_0 rfl dX13_statement_121 q795 ?_
      refine hr_iload_n hC dX13_statement_124 rfl ?_
      obtain ⟨r19, e20, h⟩ := hx_bind h
      refine hs_callV0 hC 6 [_] _ dX13_statement_125 q2068 q1603 q1604 q320 q1605 np_X6 rfl OB_6 pd_X6_next (Nat.le_of_ble_eq_true rfl) hd1 (okX6_next l E A (d - 1)  (by omega)  e20 am17) rfl ?_
      refine hr_istore_n hC dX13_statement_128 (by decide) ?_
      refine hr_goto hC 110 dX13_statement_129 (by decide) ?_
      exact hr_sub _ rfl (ih _ _ _ h JX am17)
set_option maxRecDepth 20000 in
set_option maxHeartbeats 4000000 in
theorem okbX13_statement (l : Launch) (E : hc_E) (A : Nat → Prop) (d : Nat) {kk : Nat} (n : Nat) (k0 : Nat) (rec : Nat → List Int32 → hc_St → Option (Int32 × hc_St)) (hD : kk + 2 * k0 + 15 ≤ d) (IH : ∀ (w : Nat) (a : List Int32) (σ : hc_St) (r : (Int32 × hc_St)), rec w a σ = some r → ∀ am, okg_X13_statements l E A (d - 1) am w a σ r) {x1 : Int32} {σ : hc_St} {r : (Int32 × hc_St)} (h : bd_X13_statement n k0 rec x1 σ = some r) (am : Nat → Nat → Nat) : hc_M l hc_V0 yX13_statement (ws_ yX13_statement cX13_statement 4 none) d E A [.ref (E.2.1 14), .int x1] am [13] σ (.inl (none)) r.2 := by
  have hd1 : 1 ≤ d := by omega
  have hd8 : 9 ≤ d := by omega
  have hd12 : 12 ≤ d := by omega
  refine hc_enter2 (own := RX13) [(0, .ref (E.2.1 14)), (1, .int x1)] pl_X13 rfl hc_V0_st hc_G0_nd rfl (Nat.le_of_ble_eq_true rfl) (fun X hC hem => ?_)
  unfold bd_X13_statement at h
  refine hr_aload_n hC dX13_statement_0 rfl ?_
  refine hr_gO 6 hC F14_0 rfl dX13_statement_1 q795 ?_
  refine hr_iload_n hC dX13_statement_4 rfl ?_
  obtain ⟨r1, e2, h⟩ := hx_bind h
  refine hs_callV0 hC 6 [_] _ dX13_statement_5 q2048 q1576 q1577 q320 q1578 np_X6 rfl OB_6 pd_X6_first (Nat.le_of_ble_eq_true rfl) hd1 (okX6_first l E A (d - 1)  (by omega)  e2 am) rfl ?_
  refine hr_istore_n hC dX13_statement_8 (by decide) ?_
  refine hr_aload_n hC dX13_statement_9 rfl ?_
  refine hr_gO 6 hC F14_0 rfl dX13_statement_10 q795 ?_
  refine hr_iload_n hC dX13_statement_13 rfl ?_
  obtain ⟨r5, e6, h⟩ := hx_bind h
  refine hs_callV0 hC 6 [_] _ dX13_statement_14 q2049 q1369 q1370 q320 q1371 np_X6 rfl OB_6 pd_X6_kind (Nat.le_of_ble_eq_true rfl) hd1 (okX6_kind l E A (d - 1)  (by omega)  e6 am) rfl ?_
  obtain ⟨r9, e10, h⟩ := hx_bind h
  have J11 : ∀ am87, hc_At hc_V0 E 4 X 244 [] [] r9 am87 [] := by
    intro am87
    obtain rfl := Option.some.inj h
    exact hr_vret hC dX13_statement_244
  clear h
  have h := e10
  by_cases c76 : r5 = 6
  · rw [if_pos c76] at h
    refine hr_tableIn hC 108 dX13_statement_17 (by rw [c76] <;> decide) (by rw [c76] <;> decide) (by rw [c76] <;> rfl) (by decide) ?_
    refine hr_iload_n hC dX13_statement_108 rfl ?_
    refine hr_istore_n hC dX13_statement_109 (by decide) ?_
    obtain ⟨r23, e24, h⟩ := hx_bind h
    refine hr_sub _ rfl (ll_X13_statement_110 n k0 rec hD hem IH hC n _ _ _ e24 (fun am27 => ?_) am)
    refine hr_goto hC 244 dX13_statement_132 (by decide) ?_
    obtain rfl := Option.some.inj h
    exact hr_sub _ rfl (J11 am27)
  rw [if_neg c76] at h
  by_cases c77 : r5 = 10
  · rw [if_pos c77] at h
    refine hr_tableIn hC 100 dX13_statement_17 (by rw [c77] <;> decide) (by rw [c77] <;> decide) (by rw [c77] <;> rfl) (by decide) ?_
    refine hr_aload_n hC dX13_statement_100 rfl ?_
    refine hr_iload_n hC dX13_statement_101 rfl ?_
    obtain ⟨r28, e29, h⟩ := hx_bind h
    refine hs_callV hC 14 [_] _ dX13_statement_102 q2069 q2071 qs107 q327 q2072 np_X13 rfl OB_14 pd_X13_statements (Nat.le_of_ble_eq_true rfl) hd1 (IH _ _ _ _ e29 am) (hc_rb rfl) rfl (fun am30 ha31 => ?_)
    refine hr_goto hC 244 dX13_statement_105 (by decide) ?_
    obtain rfl := Option.some.inj h
    exact hr_sub _ rfl (J11 am30)
  rw [if_neg c77] at h
  by_cases c78 : r5 = 12
  · rw [if_pos c78] at h
    refine hr_tableIn hC 135 dX13_statement_17 (by rw [c78] <;> decide) (by rw [c78] <;> decide) (by rw [c78] <;> rfl) (by decide) ?_
    refine hr_aload_n hC dX13_statement_135 rfl ?_
    refine hr_iload_n hC dX13_statement_136 rfl ?_
    refine hr_iconst (v := 0) hC dX13_statement_137 rfl ?_
    obtain ⟨r32, e33, h⟩ := hx_bind h
    refine hs_callV hC 14 [_, _] _ dX13_statement_138 q2101 q2103 qs112 q327 q2104 np_X13 rfl OB_14 pd_X13_value (Nat.le_of_ble_eq_true rfl) hd1 (okX13_value l E A (d - 1) n k0 (by omega)  e33 am) (hc_rb rfl) rfl (fun am34 ha35 => ?_)
    refine hr_pop hC dX13_statement_141 rfl ?_
    refine hr_goto hC 244 dX13_statement_142 (by decide) ?_
    obtain rfl := Option.some.inj h
    exact hr_sub _ rfl (J11 am34)
  rw [if_neg c78] at h
  by_cases c79 : r5 = 13
  · rw [if_pos c79] at h
    refine hr_tableIn hC 145 dX13_statement_17 (by rw [c79] <;> decide) (by rw [c79] <;> decide) (by rw [c79] <;> rfl) (by decide) ?_
    refine hr_aload_n hC dX13_statement_145 rfl ?_
    refine hr_iload_n hC dX13_statement_146 rfl ?_
    obtain ⟨r36, e37, h⟩ := hx_bind h
    refine hs_callV hC 14 [_] _ dX13_statement_147 q2300 q2302 qs148 q327 q2303 np_X13 rfl OB_14 pd_X13_choosing (Nat.le_of_ble_eq_true rfl) hd1 (IH _ _ _ _ e37 am) (hc_rb rfl) rfl (fun am38 ha39 => ?_)
    refine hr_goto hC 244 dX13_statement_150 (by decide) ?_
    obtain rfl := Option.some.inj h
    exact hr_sub _ rfl (J11 am38)
  rw [if_neg c79] at h
  by_cases c80 : r5 = 14
  · rw [if_pos c80] at h
    refine hr_tableIn hC 153 dX13_statement_17 (by rw [c80] <;> decide) (by rw [c80] <;> decide) (by rw [c80] <;> rfl) (by decide) ?_
    refine hr_aload_n hC dX13_statement_153 rfl ?_
    refine hr_iload_n hC dX13_statement_154 rfl ?_
    refine hr_iconst (v := (-1)) hC dX13_statement_155 rfl ?_
    refine hr_aload_n hC dX13_statement_156 rfl ?_
    refine hr_gO 6 hC F14_0 rfl dX13_statement_157 q795 ?_
    refine hr_iload_n hC dX13_statement_160 rfl ?_
    obtain ⟨r40, e41, h⟩ := hx_bind h
    refine hs_callV0 hC 6 [_] _ dX13_statement_161 q2068 q1603 q1604 q320 q1605 np_X6 rfl OB_6 pd_X6_next (Nat.le_of_ble_eq_true rfl) hd1 (okX6_next l E A (d - 1)  (by omega)  e41 am) rfl ?_
    refine hr_iconst (v := 1) hC dX13_statement_164 rfl ?_
    obtain ⟨r44, e45, h⟩ := hx_bind h
    refine hs_callV hC 14 [_, _, _, _] _ dX13_statement_165 q2304 q2306 qs149 q327 q2307 np_X13 rfl OB_14 pd_X13_looping (Nat.le_of_ble_eq_true rfl) hd1 (IH _ _ _ _ e45 am) (hc_rb rfl) rfl (fun am46 ha47 => ?_)
    refine hr_goto hC 244 dX13_statement_168 (by decide) ?_
    obtain rfl := Option.some.inj h
    exact hr_sub _ rfl (J11 am46)
  rw [if_neg c80] at h
  by_cases c81 : r5 = 15
  · rw [if_pos c81] at h
    refine hr_tableIn hC 171 dX13_statement_17 (by rw [c81] <;> decide) (by rw [c81] <;> decide) (by rw [c81] <;> rfl) (by decide) ?_
    refine hr_aload_n hC dX13_statement_171 rfl ?_
    refine hr_aload_n hC dX13_statement_172 rfl ?_
    refine hr_gO 6 hC F14_0 rfl dX13_statement_173 q795 ?_
    refine hr_iload_n hC dX13_statement_176 rfl ?_
    obtain ⟨r48, e49, h⟩ := hx_bind h
    refine hs_callV0 hC 6 [_] _ dX13_statement_177 q2068 q1603 q1604 q320 q1605 np_X6 rfl OB_6 pd_X6_next (Nat.le_of_ble_eq_true rfl) hd1 (okX6_next l E A (d - 1)  (by omega)  e49 am) rfl ?_
    refine hr_iconst (v := (-1)) hC dX13_statement_180 rfl ?_
    refine hr_iload_n hC dX13_statement_181 rfl ?_
    refine hr_iconst (v := 0) hC dX13_statement_182 rfl ?_
    obtain ⟨r52, e53, h⟩ := hx_bind h
    refine hs_callV hC 14 [_, _, _, _] _ dX13_statement_183 q2304 q2306 qs149 q327 q2307 np_X13 rfl OB_14 pd_X13_looping (Nat.le_of_ble_eq_true rfl) hd1 (IH _ _ _ _ e53 am) (hc_rb rfl) rfl (fun am54 ha55 => ?_)
    refine hr_goto hC 244 dX13_statement_186 (by decide) ?_
    obtain rfl := Option.some.inj h
    exact hr_sub _ rfl (J11 am54)
  rw [if_neg c81] at h
  by_cases c82 : r5 = 16
  · rw [if_pos c82] at h
    refine hr_tableIn hC 189 dX13_statement_17 (by rw [c82] <;> decide) (by rw [c82] <;> decide) (by rw [c82] <;> rfl) (by decide) ?_
    refine hr_aload_n hC dX13_statement_189 rfl ?_
    refine hr_iload_n hC dX13_statement_190 rfl ?_
    obtain ⟨r56, e57, h⟩ := hx_bind h
    refine hs_callV hC 14 [_] _ dX13_statement_191 q2308 q2310 qs150 q327 q2311 np_X13 rfl OB_14 pd_X13_counting (Nat.le_of_ble_eq_true rfl) hd1 (IH _ _ _ _ e57 am) (hc_rb rfl) rfl (fun am58 ha59 => ?_)
    refine hr_goto hC 244 dX13_statement_194 (by decide) ?_
    obtain rfl := Option.some.inj h
    exact hr_sub _ rfl (J11 am58)
  rw [if_neg c82] at h
  by_cases c83 : r5 = 17
  · rw [if_pos c83] at h
    refine hr_tableIn hC 197 dX13_statement_17 (by rw [c83] <;> decide) (by rw [c83] <;> decide) (by rw [c83] <;> rfl) (by decide) ?_
    refine hr_aload_n hC dX13_statement_197 rfl ?_
    refine hr_iload_n hC dX13_statement_198 rfl ?_
    refine hr_iload_n hC dX13_statement_199 rfl ?_
    obtain ⟨r60, e61, h⟩ := hx_bind h
    refine hs_callV hC 14 [_, _] _ dX13_statement_200 q2312 q2314 qs151 q327 q2315 np_X13 rfl OB_14 pd_X13_switching (Nat.le_of_ble_eq_true rfl) hd1 (IH _ _ _ _ e61 am) (hc_rb rfl) rfl (fun am62 ha63 => ?_)
    refine hr_goto hC 244 dX13_statement_203 (by decide) ?_
    obtain rfl := Option.some.inj h
    exact hr_sub _ rfl (J11 am62)
  rw [if_neg c83] at h
  by_cases c84 : r5 = 20
  · rw [if_pos c84] at h
    refine hr_tableIn hC 206 dX13_statement_17 (by rw [c84] <;> decide) (by rw [c84] <;> decide) (by rw [c84] <;> rfl) (by decide) ?_
    refine hr_aload_n hC dX13_statement_206 rfl ?_
    refine hr_gO 13 hC F14_5 rfl dX13_statement_207 q800 ?_
    refine hr_iconst (v := 0) hC dX13_statement_210 rfl ?_
    refine hr_aload_n hC dX13_statement_211 rfl ?_
    refine hr_gI hC F14_14 dX13_statement_212 q809 ?_
    obtain ⟨r64, e65, h⟩ := hx_bind h
    refine hs_callV hC 13 [_, _] _ dX13_statement_215 q1904 q1905 q1906 q326 q1907 np_X12 rfl OB_13 pd_X12_jump (Nat.le_of_ble_eq_true rfl) hd1 (okX12_jump l E A (d - 1)  (by omega)  e65 am) (hc_rb rfl) rfl (fun am66 ha67 => ?_)
    refine hr_goto hC 244 dX13_statement_218 (by decide) ?_
    obtain rfl := Option.some.inj h
    exact hr_sub _ rfl (J11 am66)
  rw [if_neg c84] at h
  by_cases c85 : r5 = 21
  · rw [if_pos c85] at h
    refine hr_tableIn hC 221 dX13_statement_17 (by rw [c85] <;> decide) (by rw [c85] <;> decide) (by rw [c85] <;> rfl) (by decide) ?_
    refine hr_aload_n hC dX13_statement_221 rfl ?_
    refine hr_gO 13 hC F14_5 rfl dX13_statement_222 q800 ?_
    refine hr_iconst (v := 0) hC dX13_statement_225 rfl ?_
    refine hr_aload_n hC dX13_statement_226 rfl ?_
    refine hr_gI hC F14_15 dX13_statement_227 q810 ?_
    obtain ⟨r68, e69, h⟩ := hx_bind h
    refine hs_callV hC 13 [_, _] _ dX13_statement_230 q1904 q1905 q1906 q326 q1907 np_X12 rfl OB_13 pd_X12_jump (Nat.le_of_ble_eq_true rfl) hd1 (okX12_jump l E A (d - 1)  (by omega)  e69 am) (hc_rb rfl) rfl (fun am70 ha71 => ?_)
    refine hr_goto hC 244 dX13_statement_233 (by decide) ?_
    obtain rfl := Option.some.inj h
    exact hr_sub _ rfl (J11 am70)
  rw [if_neg c85] at h
  by_cases c86 : r5 = 22
  · rw [if_pos c86] at h
    refine hr_tableIn hC 236 dX13_statement_17 (by rw [c86] <;> decide) (by rw [c86] <;> decide) (by rw [c86] <;> rfl) (by decide) ?_
    refine hr_aload_n hC dX13_statement_236 rfl ?_
    refine hr_iload_n hC dX13_statement_237 rfl ?_
    obtain ⟨r72, e73, h⟩ := hx_bind h
    refine hs_callV hC 14 [_] _ dX13_statement_238 q2317 q2319 qs152 q327 q2320 np_X13 rfl OB_14 pd_X13_returning (Nat.le_of_ble_eq_true rfl) hd1 (okX13_returning l E A (d - 1) n k0 (by omega)  e73 am) (hc_rb rfl) rfl (fun am74 ha75 => ?_)
    refine hr_goto hC 244 dX13_statement_241 (by decide) ?_
    obtain rfl := Option.some.inj h
    exact hr_sub _ rfl (J11 am74)
  rw [if_neg c86] at h
  refine hr_tableD hC 244 dX13_statement_17 (ks := [6, 10, 12, 13, 14, 15, 16, 17, 20, 21, 22]) (hc_l1 (hc_ne c76 rfl) (hc_l1 (hc_ne c77 rfl) (hc_l1 (hc_ne c78 rfl) (hc_l1 (hc_ne c79 rfl) (hc_l1 (hc_ne c80 rfl) (hc_l1 (hc_ne c81 rfl) (hc_l1 (hc_ne c82 rfl) (hc_l1 (hc_ne c83 rfl) (hc_l1 (hc_ne c84 rfl) (hc_l1 (hc_ne c85 rfl) (hc_l1 (hc_ne c86 rfl) hc_l0))))))))))) (by decide) (by decide) (by decide) ?_
  obtain rfl := Option.some.inj h
  exact hr_sub _ rfl (J11 am)
/-- HomeCompiler$Generator.choosing(I)V -/
def bd_X13_choosing (n : Nat) (k0 : Nat) (rec : Nat → List Int32 → hc_St → Option (Int32 × hc_St)) (x1 : Int32) (σ : hc_St) : Option (Int32 × hc_St) := Option.bind (fm_X6_next x1 σ) fun r1 => Option.bind (fm_X6_next r1 σ) fun r5 => Option.bind (fm_X12_label  σ) fun r9 => Option.bind (fm_X13_branch n k0 x1 r9.1 0 0 r9.2) fun r13 => Option.bind (rec 1 [r1] r13.2) fun r17 => if r5 = (-1) then (Option.bind (fm_X12_here r9.1 r17.2) fun r43 => some (0, r43)) else (Option.bind (fm_X12_label  r17.2) fun r23 => Option.bind (fm_X12_jump 0 r23.1 r23.2) fun r27 => Option.bind (fm_X12_here r9.1 r27) fun r31 => Option.bind (rec 1 [r5] r31) fun r35 => Option.bind (fm_X12_here r23.1 r35.2) fun r39 => some (0, r39))
set_option maxRecDepth 20000 in
set_option maxHeartbeats 4000000 in
theorem okbX13_choosing (l : Launch) (E : hc_E) (A : Nat → Prop) (d : Nat) {kk : Nat} (n : Nat) (k0 : Nat) (rec : Nat → List Int32 → hc_St → Option (Int32 × hc_St)) (hD : kk + 2 * k0 + 15 ≤ d) (IH : ∀ (w : Nat) (a : List Int32) (σ : hc_St) (r : (Int32 × hc_St)), rec w a σ = some r → ∀ am, okg_X13_statements l E A (d - 1) am w a σ r) {x1 : Int32} {σ : hc_St} {r : (Int32 × hc_St)} (h : bd_X13_choosing n k0 rec x1 σ = some r) (am : Nat → Nat → Nat) : hc_M l hc_V0 yX13_choosing (ws_ yX13_choosing cX13_choosing 6 none) d E A [.ref (E.2.1 14), .int x1] am [13] σ (.inl (none)) r.2 := by
  have hd1 : 1 ≤ d := by omega
  have hd8 : 9 ≤ d := by omega
  have hd12 : 12 ≤ d := by omega
  refine hc_enter2 (own := RX13) [(0, .ref (E.2.1 14)), (1, .int x1)] pl_X13 rfl hc_V0_st hc_G0_nd rfl (Nat.le_of_ble_eq_true rfl) (fun X hC hem => ?_)
  unfold bd_X13_choosing at h
  refine hr_aload_n hC dX13_choosing_0 rfl ?_
  refine hr_gO 6 hC F14_0 rfl dX13_choosing_1 q795 ?_
  refine hr_iload_n hC dX13_choosing_4 rfl ?_
  obtain ⟨r1, e2, h⟩ := hx_bind h
  refine hs_callV0 hC 6 [_] _ dX13_choosing_5 q2068 q1603 q1604 q320 q1605 np_X6 rfl OB_6 pd_X6_next (Nat.le_of_ble_eq_true rfl) hd1 (okX6_next l E A (d - 1)  (by omega)  e2 am) rfl ?_
  refine hr_istore_n hC dX13_choosing_8 (by decide) ?_
  refine hr_aload_n hC dX13_choosing_9 rfl ?_
  refine hr_gO 6 hC F14_0 rfl dX13_choosing_10 q795 ?_
  refine hr_iload_n hC dX13_choosing_13 rfl ?_
  obtain ⟨r5, e6, h⟩ := hx_bind h
  refine hs_callV0 hC 6 [_] _ dX13_choosing_14 q2068 q1603 q1604 q320 q1605 np_X6 rfl OB_6 pd_X6_next (Nat.le_of_ble_eq_true rfl) hd1 (okX6_next l E A (d - 1)  (by omega)  e6 am) rfl ?_
  refine hr_istore_n hC dX13_choosing_17 (by decide) ?_
  refine hr_aload_n hC dX13_choosing_18 rfl ?_
  refine hr_gO 13 hC F14_5 rfl dX13_choosing_19 q800 ?_
  obtain ⟨r9, e10, h⟩ := hx_bind h
  refine hs_callV hC 13 [] _ dX13_choosing_22 q1888 q1889 q1890 q326 q1891 np_X12 rfl OB_13 pd_X12_label (Nat.le_of_ble_eq_true rfl) hd1 (okX12_label l E A (d - 1)  (by omega)  e10 am) (hc_rb rfl) rfl (fun am11 ha12 => ?_)
  refine hr_istore hC dX13_choosing_25 (by decide) ?_
  refine hr_aload_n hC dX13_choosing_27 rfl ?_
  refine hr_iload_n hC dX13_choosing_28 rfl ?_
  refine hr_iload hC dX13_choosing_29 rfl ?_
  refine hr_iconst (v := 0) hC dX13_choosing_31 rfl ?_
  refine hr_iconst (v := 0) hC dX13_choosing_32 rfl ?_
  obtain ⟨r13, e14, h⟩ := hx_bind h
  refine hs_callV hC 14 [_, _, _, _] _ dX13_choosing_33 q2270 q2272 qs142 q327 q2273 np_X13 rfl OB_14 pd_X13_branch (Nat.le_of_ble_eq_true rfl) hd1 (okX13_branch l E A (d - 1) n k0 (by omega)  e14 am11) (hc_rb rfl) rfl (fun am15 ha16 => ?_)
  refine hr_aload_n hC dX13_choosing_36 rfl ?_
  refine hr_iload_n hC dX13_choosing_37 rfl ?_
  obtain ⟨r17, e18, h⟩ := hx_bind h
  refine hs_callV hC 14 [_] _ dX13_choosing_38 q2073 q2075 qs108 q327 q2076 np_X13 rfl OB_14 pd_X13_statement (Nat.le_of_ble_eq_true rfl) hd1 (IH _ _ _ _ e18 am15) (hc_rb rfl) rfl (fun am19 ha20 => ?_)
  refine hr_iload_n hC dX13_choosing_41 rfl ?_
  refine hr_iconst (v := (-1)) hC dX13_choosing_42 rfl ?_
  refine hr_icmp_ne (x := _) hC 56 dX13_choosing_43 (by decide) (fun c22 => ?_) (fun c22 => ?_)
  · rw [if_neg c22] at h
    refine hr_aload_n hC dX13_choosing_56 rfl ?_
    refine hr_gO 13 hC F14_5 rfl dX13_choosing_57 q800 ?_
    obtain ⟨r23, e24, h⟩ := hx_bind h
    refine hs_callV hC 13 [] _ dX13_choosing_60 q1888 q1889 q1890 q326 q1891 np_X12 rfl OB_13 pd_X12_label (Nat.le_of_ble_eq_true rfl) hd1 (okX12_label l E A (d - 1)  (by omega)  e24 am19) (hc_rb rfl) rfl (fun am25 ha26 => ?_)
    refine hr_istore hC dX13_choosing_63 (by decide) ?_
    refine hr_aload_n hC dX13_choosing_65 rfl ?_
    refine hr_gO 13 hC F14_5 rfl dX13_choosing_66 q800 ?_
    refine hr_iconst (v := 0) hC dX13_choosing_69 rfl ?_
    refine hr_iload hC dX13_choosing_70 rfl ?_
    obtain ⟨r27, e28, h⟩ := hx_bind h
    refine hs_callV hC 13 [_, _] _ dX13_choosing_72 q1904 q1905 q1906 q326 q1907 np_X12 rfl OB_13 pd_X12_jump (Nat.le_of_ble_eq_true rfl) hd1 (okX12_jump l E A (d - 1)  (by omega)  e28 am25) (hc_rb rfl) rfl (fun am29 ha30 => ?_)
    refine hr_aload_n hC dX13_choosing_75 rfl ?_
    refine hr_gO 13 hC F14_5 rfl dX13_choosing_76 q800 ?_
    refine hr_iload hC dX13_choosing_79 rfl ?_
    obtain ⟨r31, e32, h⟩ := hx_bind h
    refine hs_callV0 hC 13 [_] _ dX13_choosing_81 q1927 q1928 q1929 q326 q1930 np_X12 rfl OB_13 pd_X12_here (Nat.le_of_ble_eq_true rfl) hd1 (okX12_here l E A (d - 1)  (by omega)  e32 am29) rfl ?_
    refine hr_aload_n hC dX13_choosing_84 rfl ?_
    refine hr_iload_n hC dX13_choosing_85 rfl ?_
    obtain ⟨r35, e36, h⟩ := hx_bind h
    refine hs_callV hC 14 [_] _ dX13_choosing_86 q2073 q2075 qs108 q327 q2076 np_X13 rfl OB_14 pd_X13_statement (Nat.le_of_ble_eq_true rfl) hd1 (IH _ _ _ _ e36 am29) (hc_rb rfl) rfl (fun am37 ha38 => ?_)
    refine hr_aload_n hC dX13_choosing_89 rfl ?_
    refine hr_gO 13 hC F14_5 rfl dX13_choosing_90 q800 ?_
    refine hr_iload hC dX13_choosing_93 rfl ?_
    obtain ⟨r39, e40, h⟩ := hx_bind h
    refine hs_callV0 hC 13 [_] _ dX13_choosing_95 q1927 q1928 q1929 q326 q1930 np_X12 rfl OB_13 pd_X12_here (Nat.le_of_ble_eq_true rfl) hd1 (okX12_here l E A (d - 1)  (by omega)  e40 am37) rfl ?_
    obtain rfl := Option.some.inj h
    exact hr_vret hC dX13_choosing_98
  · rw [if_pos c22] at h
    refine hr_aload_n hC dX13_choosing_46 rfl ?_
    refine hr_gO 13 hC F14_5 rfl dX13_choosing_47 q800 ?_
    refine hr_iload hC dX13_choosing_50 rfl ?_
    obtain ⟨r43, e44, h⟩ := hx_bind h
    refine hs_callV0 hC 13 [_] _ dX13_choosing_52 q1927 q1928 q1929 q326 q1930 np_X12 rfl OB_13 pd_X12_here (Nat.le_of_ble_eq_true rfl) hd1 (okX12_here l E A (d - 1)  (by omega)  e44 am19) rfl ?_
    obtain rfl := Option.some.inj h
    exact hr_vret hC dX13_choosing_55
/-- HomeCompiler$Generator.looping(IIIZ)V -/
def bd_X13_looping (n : Nat) (k0 : Nat) (rec : Nat → List Int32 → hc_St → Option (Int32 × hc_St)) (x1 : Int32) (x2 : Int32) (x3 : Int32) (x4 : Int32) (σ : hc_St) : Option (Int32 × hc_St) := Option.bind (fm_X12_label  σ) fun r1 => hl (pI r1.2 14 14 r1.1) fun σ5 => Option.bind (fm_X12_label  σ5) fun r6 => hl (pI r6.2 14 15 r6.1) fun σ10 => Option.bind (fm_X12_label  σ10) fun r11 => Option.bind (fm_X12_label  r11.2) fun r15 => Option.bind (α := hc_St) (if x4 = 0 then (some (r15.2)) else (Option.bind (fm_X12_jump 0 r15.1 r15.2) fun r25 => some (r25))) fun r21 => Option.bind (fm_X12_here r11.1 r21) fun r30 => Option.bind (fm_X13_takeWork  r30) fun r34 => Option.bind (rec 1 [x3] r34) fun r38 => Option.bind (fm_X12_here ((gI r38.2 14 15)) r38.2) fun r42 => Option.bind (α := hc_St) (if x2 = (-1) then (some (r42)) else (Option.bind (fm_X6_kind x2 r42) fun r52 => if r52 = 11 then (some (r42)) else (Option.bind (fm_X13_value n k0 x2 0 r42) fun r58 => some (r58.2)))) fun r48 => Option.bind (fm_X12_here r15.1 r48) fun r63 => Option.bind (fm_X6_kind x1 r63) fun r67 => Option.bind (α := hc_St) (if r67 = 11 then (Option.bind (fm_X12_jump 0 r11.1 r63) fun r81 => some (r81)) else (Option.bind (fm_X13_branch n k0 x1 r11.1 1 0 r63) fun r77 => some (r77.2))) fun r73 => Option.bind (fm_X12_here ((gI r73 14 14)) r73) fun r86 => hl (pI r86 14 14 ((gI σ 14 14))) fun σ90 => hl (pI σ90 14 15 ((gI σ 14 15))) fun σ91 => some (0, σ91)
set_option maxRecDepth 20000 in
set_option maxHeartbeats 4000000 in
theorem okbX13_looping (l : Launch) (E : hc_E) (A : Nat → Prop) (d : Nat) {kk : Nat} (n : Nat) (k0 : Nat) (rec : Nat → List Int32 → hc_St → Option (Int32 × hc_St)) (hD : kk + 2 * k0 + 15 ≤ d) (IH : ∀ (w : Nat) (a : List Int32) (σ : hc_St) (r : (Int32 × hc_St)), rec w a σ = some r → ∀ am, okg_X13_statements l E A (d - 1) am w a σ r) {x1 : Int32} {x2 : Int32} {x3 : Int32} {x4 : Int32} {σ : hc_St} {r : (Int32 × hc_St)} (h : bd_X13_looping n k0 rec x1 x2 x3 x4 σ = some r) (am : Nat → Nat → Nat) : hc_M l hc_V0 yX13_looping (ws_ yX13_looping cX13_looping 9 none) d E A [.ref (E.2.1 14), .int x1, .int x2, .int x3, .int x4] am [13] σ (.inl (none)) r.2 := by
  have hd1 : 1 ≤ d := by omega
  have hd8 : 9 ≤ d := by omega
  have hd12 : 12 ≤ d := by omega
  refine hc_enter2 (own := RX13) [(0, .ref (E.2.1 14)), (1, .int x1), (2, .int x2), (3, .int x3), (4, .int x4)] pl_X13 rfl hc_V0_st hc_G0_nd rfl (Nat.le_of_ble_eq_true rfl) (fun X hC hem => ?_)
  unfold bd_X13_looping at h
  refine hr_aload_n hC dX13_looping_0 rfl ?_
  refine hr_gI hC F14_14 dX13_looping_1 q809 ?_
  refine hr_istore hC dX13_looping_4 (by decide) ?_
  refine hr_aload_n hC dX13_looping_6 rfl ?_
  refine hr_gI hC F14_15 dX13_looping_7 q810 ?_
  refine hr_istore hC dX13_looping_10 (by decide) ?_
  refine hr_aload_n hC dX13_looping_12 rfl ?_
  refine hr_aload_n hC dX13_looping_13 rfl ?_
  refine hr_gO 13 hC F14_5 rfl dX13_looping_14 q800 ?_
  obtain ⟨r1, e2, h⟩ := hx_bind h
  refine hs_callV hC 13 [] _ dX13_looping_17 q1888 q1889 q1890 q326 q1891 np_X12 rfl OB_13 pd_X12_label (Nat.le_of_ble_eq_true rfl) hd1 (okX12_label l E A (d - 1)  (by omega)  e2 am) (hc_rb rfl) rfl (fun am3 ha4 => ?_)
  obtain ⟨σ5, hσ5, h⟩ := hl_ok h
  refine hr_pI hC F14_14 PX13_14 dX13_looping_20 q809 ?_
  rw [← hσ5]
  refine hr_aload_n hC dX13_looping_23 rfl ?_
  refine hr_aload_n hC dX13_looping_24 rfl ?_
  refine hr_gO 13 hC F14_5 rfl dX13_looping_25 q800 ?_
  obtain ⟨r6, e7, h⟩ := hx_bind h
  refine hs_callV hC 13 [] _ dX13_looping_28 q1888 q1889 q1890 q326 q1891 np_X12 rfl OB_13 pd_X12_label (Nat.le_of_ble_eq_true rfl) hd1 (okX12_label l E A (d - 1)  (by omega)  e7 am3) (hc_rb rfl) rfl (fun am8 ha9 => ?_)
  obtain ⟨σ10, hσ10, h⟩ := hl_ok h
  refine hr_pI hC F14_15 PX13_15 dX13_looping_31 q810 ?_
  rw [← hσ10]
  refine hr_aload_n hC dX13_looping_34 rfl ?_
  refine hr_gO 13 hC F14_5 rfl dX13_looping_35 q800 ?_
  obtain ⟨r11, e12, h⟩ := hx_bind h
  refine hs_callV hC 13 [] _ dX13_looping_38 q1888 q1889 q1890 q326 q1891 np_X12 rfl OB_13 pd_X12_label (Nat.le_of_ble_eq_true rfl) hd1 (okX12_label l E A (d - 1)  (by omega)  e12 am8) (hc_rb rfl) rfl (fun am13 ha14 => ?_)
  refine hr_istore hC dX13_looping_41 (by decide) ?_
  refine hr_aload_n hC dX13_looping_43 rfl ?_
  refine hr_gO 13 hC F14_5 rfl dX13_looping_44 q800 ?_
  obtain ⟨r15, e16, h⟩ := hx_bind h
  refine hs_callV hC 13 [] _ dX13_looping_47 q1888 q1889 q1890 q326 q1891 np_X12 rfl OB_13 pd_X12_label (Nat.le_of_ble_eq_true rfl) hd1 (okX12_label l E A (d - 1)  (by omega)  e16 am13) (hc_rb rfl) rfl (fun am17 ha18 => ?_)
  refine hr_istore hC dX13_looping_50 (by decide) ?_
  refine hr_iload hC dX13_looping_52 rfl ?_
  obtain ⟨r21, e22, h⟩ := hx_bind h
  have J23 : ∀ am29, hc_At hc_V0 E 9 X 67 [(0, .ref (E.2.1 14)), (1, .int x1), (2, .int x2), (3, .int x3), (5, .int (gI σ 14 14)), (6, .int (gI σ 14 15)), (7, .int r11.1), (8, .int r15.1)] [] r21 am29 [] := by
    intro am29
    refine hr_aload_n hC dX13_looping_67 rfl ?_
    refine hr_gO 13 hC F14_5 rfl dX13_looping_68 q800 ?_
    refine hr_iload hC dX13_looping_71 rfl ?_
    obtain ⟨r30, e31, h⟩ := hx_bind h
    refine hs_callV0 hC 13 [_] _ dX13_looping_73 q1927 q1928 q1929 q326 q1930 np_X12 rfl OB_13 pd_X12_here (Nat.le_of_ble_eq_true rfl) hd1 (okX12_here l E A (d - 1)  (by omega)  e31 am29) rfl ?_
    refine hr_aload_n hC dX13_looping_76 rfl ?_
    obtain ⟨r34, e35, h⟩ := hx_bind h
    refine hs_callV hC 14 [] _ dX13_looping_77 q1979 q1981 qs103 q327 q1982 np_X13 rfl OB_14 pd_X13_takeWork (Nat.le_of_ble_eq_true rfl) hd1 (okX13_takeWork l E A (d - 1)  (by omega)  e35 am29) (hc_rb rfl) rfl (fun am36 ha37 => ?_)
    refine hr_aload_n hC dX13_looping_80 rfl ?_
    refine hr_iload_n hC dX13_looping_81 rfl ?_
    obtain ⟨r38, e39, h⟩ := hx_bind h
    refine hs_callV hC 14 [_] _ dX13_looping_82 q2073 q2075 qs108 q327 q2076 np_X13 rfl OB_14 pd_X13_statement (Nat.le_of_ble_eq_true rfl) hd1 (IH _ _ _ _ e39 am36) (hc_rb rfl) rfl (fun am40 ha41 => ?_)
    refine hr_aload_n hC dX13_looping_85 rfl ?_
    refine hr_gO 13 hC F14_5 rfl dX13_looping_86 q800 ?_
    refine hr_aload_n hC dX13_looping_89 rfl ?_
    refine hr_gI hC F14_15 dX13_looping_90 q810 ?_
    obtain ⟨r42, e43, h⟩ := hx_bind h
    refine hs_callV0 hC 13 [_] _ dX13_looping_93 q1927 q1928 q1929 q326 q1930 np_X12 rfl OB_13 pd_X12_here (Nat.le_of_ble_eq_true rfl) hd1 (okX12_here l E A (d - 1)  (by omega)  e43 am40) rfl ?_
    refine hr_iload_n hC dX13_looping_96 rfl ?_
    refine hr_iconst (v := (-1)) hC dX13_looping_97 rfl ?_
    obtain ⟨r48, e49, h⟩ := hx_bind h
    have J50 : ∀ am62, hc_At hc_V0 E 9 X 121 [(0, .ref (E.2.1 14)), (1, .int x1), (5, .int (gI σ 14 14)), (6, .int (gI σ 14 15)), (7, .int r11.1), (8, .int r15.1)] [] r48 am62 [] := by
      intro am62
      refine hr_aload_n hC dX13_looping_121 rfl ?_
      refine hr_gO 13 hC F14_5 rfl dX13_looping_122 q800 ?_
      refine hr_iload hC dX13_looping_125 rfl ?_
      obtain ⟨r63, e64, h⟩ := hx_bind h
      refine hs_callV0 hC 13 [_] _ dX13_looping_127 q1927 q1928 q1929 q326 q1930 np_X12 rfl OB_13 pd_X12_here (Nat.le_of_ble_eq_true rfl) hd1 (okX12_here l E A (d - 1)  (by omega)  e64 am62) rfl ?_
      refine hr_aload_n hC dX13_looping_130 rfl ?_
      refine hr_gO 6 hC F14_0 rfl dX13_looping_131 q795 ?_
      refine hr_iload_n hC dX13_looping_134 rfl ?_
      obtain ⟨r67, e68, h⟩ := hx_bind h
      refine hs_callV0 hC 6 [_] _ dX13_looping_135 q2049 q1369 q1370 q320 q1371 np_X6 rfl OB_6 pd_X6_kind (Nat.le_of_ble_eq_true rfl) hd1 (okX6_kind l E A (d - 1)  (by omega)  e68 am62) rfl ?_
      refine hr_bipush (v := 11) hC dX13_looping_138 rfl ?_
      obtain ⟨r73, e74, h⟩ := hx_bind h
      have J75 : ∀ am85, hc_At hc_V0 E 9 X 165 [(0, .ref (E.2.1 14)), (5, .int (gI σ 14 14)), (6, .int (gI σ 14 15))] [] r73 am85 [] := by
        intro am85
        refine hr_aload_n hC dX13_looping_165 rfl ?_
        refine hr_gO 13 hC F14_5 rfl dX13_looping_166 q800 ?_
        refine hr_aload_n hC dX13_looping_169 rfl ?_
        refine hr_gI hC F14_14 dX13_looping_170 q809 ?_
        obtain ⟨r86, e87, h⟩ := hx_bind h
        refine hs_callV0 hC 13 [_] _ dX13_looping_173 q1927 q1928 q1929 q326 q1930 np_X12 rfl OB_13 pd_X12_here (Nat.le_of_ble_eq_true rfl) hd1 (okX12_here l E A (d - 1)  (by omega)  e87 am85) rfl ?_
        refine hr_aload_n hC dX13_looping_176 rfl ?_
        refine hr_iload hC dX13_looping_177 rfl ?_
        obtain ⟨σ90, hσ90, h⟩ := hl_ok h
        refine hr_pI hC F14_14 PX13_14 dX13_looping_179 q809 ?_
        rw [← hσ90]
        refine hr_aload_n hC dX13_looping_182 rfl ?_
        refine hr_iload hC dX13_looping_183 rfl ?_
        obtain ⟨σ91, hσ91, h⟩ := hl_ok h
        refine hr_pI hC F14_15 PX13_15 dX13_looping_185 q810 ?_
        rw [← hσ91]
        obtain rfl := Option.some.inj h
        exact hr_vret hC dX13_looping_188
      clear h
      have h := e74
      refine hr_icmp_ne (x := _) hC 156 dX13_looping_140 (by decide) (fun c72 => ?_) (fun c72 => ?_)
      · rw [if_neg c72] at h
        refine hr_aload_n hC dX13_looping_156 rfl ?_
        refine hr_iload_n hC dX13_looping_157 rfl ?_
        refine hr_iload hC dX13_looping_158 rfl ?_
        refine hr_iconst (v := 1) hC dX13_looping_160 rfl ?_
        refine hr_iconst (v := 0) hC dX13_looping_161 rfl ?_
        obtain ⟨r77, e78, h⟩ := hx_bind h
        refine hs_callV hC 14 [_, _, _, _] _ dX13_looping_162 q2270 q2272 qs142 q327 q2273 np_X13 rfl OB_14 pd_X13_branch (Nat.le_of_ble_eq_true rfl) hd1 (okX13_branch l E A (d - 1) n k0 (by omega)  e78 am62) (hc_rb rfl) rfl (fun am79 ha80 => ?_)
        obtain rfl := Option.some.inj h
        exact hr_sub _ rfl (J75 am79)
      · rw [if_pos c72] at h
        refine hr_aload_n hC dX13_looping_143 rfl ?_
        refine hr_gO 13 hC F14_5 rfl dX13_looping_144 q800 ?_
        refine hr_iconst (v := 0) hC dX13_looping_147 rfl ?_
        refine hr_iload hC dX13_looping_148 rfl ?_
        obtain ⟨r81, e82, h⟩ := hx_bind h
        refine hs_callV hC 13 [_, _] _ dX13_looping_150 q1904 q1905 q1906 q326 q1907 np_X12 rfl OB_13 pd_X12_jump (Nat.le_of_ble_eq_true rfl) hd1 (okX12_jump l E A (d - 1)  (by omega)  e82 am62) (hc_rb rfl) rfl (fun am83 ha84 => ?_)
        refine hr_goto hC 165 dX13_looping_153 (by decide) ?_
        obtain rfl := Option.some.inj h
        exact hr_sub _ rfl (J75 am83)
    clear h
    have h := e49
    refine hr_icmp_eq (x := _) hC 121 dX13_looping_98 (by decide) (fun c47 => ?_) (fun c47 => ?_)
    · rw [if_pos c47] at h
      obtain rfl := Option.some.inj h
      exact hr_sub _ rfl (J50 am40)
    · rw [if_neg c47] at h
      refine hr_aload_n hC dX13_looping_101 rfl ?_
      refine hr_gO 6 hC F14_0 rfl dX13_looping_102 q795 ?_
      refine hr_iload_n hC dX13_looping_105 rfl ?_
      obtain ⟨r52, e53, h⟩ := hx_bind h
      refine hs_callV0 hC 6 [_] _ dX13_looping_106 q2049 q1369 q1370 q320 q1371 np_X6 rfl OB_6 pd_X6_kind (Nat.le_of_ble_eq_true rfl) hd1 (okX6_kind l E A (d - 1)  (by omega)  e53 am40) rfl ?_
      refine hr_bipush (v := 11) hC dX13_looping_109 rfl ?_
      refine hr_icmp_eq (x := _) hC 121 dX13_looping_111 (by decide) (fun c57 => ?_) (fun c57 => ?_)
      · rw [if_pos c57] at h
        obtain rfl := Option.some.inj h
        exact hr_sub _ rfl (J50 am40)
      · rw [if_neg c57] at h
        refine hr_aload_n hC dX13_looping_114 rfl ?_
        refine hr_iload_n hC dX13_looping_115 rfl ?_
        refine hr_iconst (v := 0) hC dX13_looping_116 rfl ?_
        obtain ⟨r58, e59, h⟩ := hx_bind h
        refine hs_callV hC 14 [_, _] _ dX13_looping_117 q2101 q2103 qs112 q327 q2104 np_X13 rfl OB_14 pd_X13_value (Nat.le_of_ble_eq_true rfl) hd1 (okX13_value l E A (d - 1) n k0 (by omega)  e59 am40) (hc_rb rfl) rfl (fun am60 ha61 => ?_)
        refine hr_pop hC dX13_looping_120 rfl ?_
        obtain rfl := Option.some.inj h
        exact hr_sub _ rfl (J50 am60)
  clear h
  have h := e22
  refine hr_if_eq (x := _) hC 67 dX13_looping_54 (by decide) (fun c20 => ?_) (fun c20 => ?_)
  · rw [if_pos c20] at h
    obtain rfl := Option.some.inj h
    exact hr_sub _ rfl (J23 am17)
  · rw [if_neg c20] at h
    refine hr_aload_n hC dX13_looping_57 rfl ?_
    refine hr_gO 13 hC F14_5 rfl dX13_looping_58 q800 ?_
    refine hr_iconst (v := 0) hC dX13_looping_61 rfl ?_
    refine hr_iload hC dX13_looping_62 rfl ?_
    obtain ⟨r25, e26, h⟩ := hx_bind h
    refine hs_callV hC 13 [_, _] _ dX13_looping_64 q1904 q1905 q1906 q326 q1907 np_X12 rfl OB_13 pd_X12_jump (Nat.le_of_ble_eq_true rfl) hd1 (okX12_jump l E A (d - 1)  (by omega)  e26 am17) (hc_rb rfl) rfl (fun am27 ha28 => ?_)
    obtain rfl := Option.some.inj h
    exact hr_sub _ rfl (J23 am27)
/-- HomeCompiler$Generator.counting(I)V -/
def bd_X13_counting (n : Nat) (k0 : Nat) (rec : Nat → List Int32 → hc_St → Option (Int32 × hc_St)) (x1 : Int32) (σ : hc_St) : Option (Int32 × hc_St) := Option.bind (fm_X6_next x1 σ) fun r1 => Option.bind (fm_X6_next r1 σ) fun r5 => Option.bind (fm_X6_kind x1 σ) fun r9 => Option.bind (α := hc_St) (if r9 = 6 then (Option.bind (rec 1 [x1] σ) fun r29 => some (r29.2)) else (Option.bind (fm_X6_kind x1 σ) fun r19 => if r19 = 11 then (some (σ)) else (Option.bind (fm_X13_value n k0 x1 0 σ) fun r25 => some (r25.2)))) fun r15 => Option.bind (fm_X6_next r5 r15) fun r34 => Option.bind (rec 3 [r1, r5, r34, 1] r15) fun r38 => some (0, r38.2)
set_option maxRecDepth 20000 in
set_option maxHeartbeats 4000000 in
theorem okbX13_counting (l : Launch) (E : hc_E) (A : Nat → Prop) (d : Nat) {kk : Nat} (n : Nat) (k0 : Nat) (rec : Nat → List Int32 → hc_St → Option (Int32 × hc_St)) (hD : kk + 2 * k0 + 15 ≤ d) (IH : ∀ (w : Nat) (a : List Int32) (σ : hc_St) (r : (Int32 × hc_St)), rec w a σ = some r → ∀ am, okg_X13_statements l E A (d - 1) am w a σ r) {x1 : Int32} {σ : hc_St} {r : (Int32 × hc_St)} (h : bd_X13_counting n k0 rec x1 σ = some r) (am : Nat → Nat → Nat) : hc_M l hc_V0 yX13_counting (ws_ yX13_counting cX13_counting 4 none) d E A [.ref (E.2.1 14), .int x1] am [13] σ (.inl (none)) r.2 := by
  have hd1 : 1 ≤ d := by omega
  have hd8 : 9 ≤ d := by omega
  have hd12 : 12 ≤ d := by omega
  refine hc_enter2 (own := RX13) [(0, .ref (E.2.1 14)), (1, .int x1)] pl_X13 rfl hc_V0_st hc_G0_nd rfl (Nat.le_of_ble_eq_true rfl) (fun X hC hem => ?_)
  unfold bd_X13_counting at h
  refine hr_aload_n hC dX13_counting_0 rfl ?_
  refine hr_gO 6 hC F14_0 rfl dX13_counting_1 q795 ?_
  refine hr_iload_n hC dX13_counting_4 rfl ?_
  obtain ⟨r1, e2, h⟩ := hx_bind h
  refine hs_callV0 hC 6 [_] _ dX13_counting_5 q2068 q1603 q1604 q320 q1605 np_X6 rfl OB_6 pd_X6_next (Nat.le_of_ble_eq_true rfl) hd1 (okX6_next l E A (d - 1)  (by omega)  e2 am) rfl ?_
  refine hr_istore_n hC dX13_counting_8 (by decide) ?_
  refine hr_aload_n hC dX13_counting_9 rfl ?_
  refine hr_gO 6 hC F14_0 rfl dX13_counting_10 q795 ?_
  refine hr_iload_n hC dX13_counting_13 rfl ?_
  obtain ⟨r5, e6, h⟩ := hx_bind h
  refine hs_callV0 hC 6 [_] _ dX13_counting_14 q2068 q1603 q1604 q320 q1605 np_X6 rfl OB_6 pd_X6_next (Nat.le_of_ble_eq_true rfl) hd1 (okX6_next l E A (d - 1)  (by omega)  e6 am) rfl ?_
  refine hr_istore_n hC dX13_counting_17 (by decide) ?_
  refine hr_aload_n hC dX13_counting_18 rfl ?_
  refine hr_gO 6 hC F14_0 rfl dX13_counting_19 q795 ?_
  refine hr_iload_n hC dX13_counting_22 rfl ?_
  obtain ⟨r9, e10, h⟩ := hx_bind h
  refine hs_callV0 hC 6 [_] _ dX13_counting_23 q2049 q1369 q1370 q320 q1371 np_X6 rfl OB_6 pd_X6_kind (Nat.le_of_ble_eq_true rfl) hd1 (okX6_kind l E A (d - 1)  (by omega)  e10 am) rfl ?_
  refine hr_bipush (v := 6) hC dX13_counting_26 rfl ?_
  obtain ⟨r15, e16, h⟩ := hx_bind h
  have J17 : ∀ am33, hc_At hc_V0 E 4 X 59 [(0, .ref (E.2.1 14)), (2, .int r1), (3, .int r5)] [] r15 am33 [] := by
    intro am33
    refine hr_aload_n hC dX13_counting_59 rfl ?_
    refine hr_iload_n hC dX13_counting_60 rfl ?_
    refine hr_iload_n hC dX13_counting_61 rfl ?_
    refine hr_aload_n hC dX13_counting_62 rfl ?_
    refine hr_gO 6 hC F14_0 rfl dX13_counting_63 q795 ?_
    refine hr_iload_n hC dX13_counting_66 rfl ?_
    obtain ⟨r34, e35, h⟩ := hx_bind h
    refine hs_callV0 hC 6 [_] _ dX13_counting_67 q2068 q1603 q1604 q320 q1605 np_X6 rfl OB_6 pd_X6_next (Nat.le_of_ble_eq_true rfl) hd1 (okX6_next l E A (d - 1)  (by omega)  e35 am33) rfl ?_
    refine hr_iconst (v := 1) hC dX13_counting_70 rfl ?_
    obtain ⟨r38, e39, h⟩ := hx_bind h
    refine hs_callV hC 14 [_, _, _, _] _ dX13_counting_71 q2304 q2306 qs149 q327 q2307 np_X13 rfl OB_14 pd_X13_looping (Nat.le_of_ble_eq_true rfl) hd1 (IH _ _ _ _ e39 am33) (hc_rb rfl) rfl (fun am40 ha41 => ?_)
    obtain rfl := Option.some.inj h
    exact hr_vret hC dX13_counting_74
  clear h
  have h := e16
  refine hr_icmp_ne (x := _) hC 39 dX13_counting_28 (by decide) (fun c14 => ?_) (fun c14 => ?_)
  · rw [if_neg c14] at h
    refine hr_aload_n hC dX13_counting_39 rfl ?_
    refine hr_gO 6 hC F14_0 rfl dX13_counting_40 q795 ?_
    refine hr_iload_n hC dX13_counting_43 rfl ?_
    obtain ⟨r19, e20, h⟩ := hx_bind h
    refine hs_callV0 hC 6 [_] _ dX13_counting_44 q2049 q1369 q1370 q320 q1371 np_X6 rfl OB_6 pd_X6_kind (Nat.le_of_ble_eq_true rfl) hd1 (okX6_kind l E A (d - 1)  (by omega)  e20 am) rfl ?_
    refine hr_bipush (v := 11) hC dX13_counting_47 rfl ?_
    refine hr_icmp_eq (x := _) hC 59 dX13_counting_49 (by decide) (fun c24 => ?_) (fun c24 => ?_)
    · rw [if_pos c24] at h
      obtain rfl := Option.some.inj h
      exact hr_sub _ rfl (J17 am)
    · rw [if_neg c24] at h
      refine hr_aload_n hC dX13_counting_52 rfl ?_
      refine hr_iload_n hC dX13_counting_53 rfl ?_
      refine hr_iconst (v := 0) hC dX13_counting_54 rfl ?_
      obtain ⟨r25, e26, h⟩ := hx_bind h
      refine hs_callV hC 14 [_, _] _ dX13_counting_55 q2101 q2103 qs112 q327 q2104 np_X13 rfl OB_14 pd_X13_value (Nat.le_of_ble_eq_true rfl) hd1 (okX13_value l E A (d - 1) n k0 (by omega)  e26 am) (hc_rb rfl) rfl (fun am27 ha28 => ?_)
      refine hr_pop hC dX13_counting_58 rfl ?_
      obtain rfl := Option.some.inj h
      exact hr_sub _ rfl (J17 am27)
  · rw [if_pos c14] at h
    refine hr_aload_n hC dX13_counting_31 rfl ?_
    refine hr_iload_n hC dX13_counting_32 rfl ?_
    obtain ⟨r29, e30, h⟩ := hx_bind h
    refine hs_callV hC 14 [_] _ dX13_counting_33 q2073 q2075 qs108 q327 q2076 np_X13 rfl OB_14 pd_X13_statement (Nat.le_of_ble_eq_true rfl) hd1 (IH _ _ _ _ e30 am) (hc_rb rfl) rfl (fun am31 ha32 => ?_)
    refine hr_goto hC 59 dX13_counting_36 (by decide) ?_
    obtain rfl := Option.some.inj h
    exact hr_sub _ rfl (J17 am31)
def lp_X13_switching_50 (n : Nat) (k0 : Nat) (rec : Nat → List Int32 → hc_St → Option (Int32 × hc_St)) : Nat → Int32 → Int32 → Int32 → Int32 → Int32 → hc_St → Option (hc_St × Int32)
  | 0, _, _, _, _, _, _ => none
  | m + 1, y2, y3, y4, y5, y6, σ => if y6 = (-1) then (some (σ, y5)) else (Option.bind (fm_X6_kind y6 σ) fun r24 => Option.bind (α := hc_St × Int32) (if r24 = 18 then (Option.bind (fm_X12_label  σ) fun r52 => Option.bind (fm_X6_setNumber y6 r52.1 r52.2) fun r56 => Option.bind (fm_X6_first y6 r56) fun r60 => Option.bind (fm_X6_value r60 r56) fun r64 => Option.bind (fm_X12_set 6 r64 r56) fun r68 => Option.bind (fm_X6_number y6 r68) fun r72 => Option.bind (fm_X12_branch 0 y4 6 r72 r68) fun r76 => some (r76, y5)) else (Option.bind (fm_X6_kind y6 σ) fun r34 => if r34 = 19 then (Option.bind (fm_X12_label  σ) fun r40 => Option.bind (fm_X6_setNumber y6 r40.1 r40.2) fun r44 => Option.bind (fm_X6_number y6 r44) fun r48 => some (r44, r48)) else (some (σ, y5)))) fun r30 => Option.bind (fm_X6_next y6 r30.1) fun r81 => lp_X13_switching_50 n k0 rec m y2 y3 y4 r30.2 r81 r30.1)
def lp_X13_switching_210 (n : Nat) (k0 : Nat) (rec : Nat → List Int32 → hc_St → Option (Int32 × hc_St)) : Nat → Int32 → Int32 → hc_St → Option (hc_St)
  | 0, _, _, _ => none
  | m + 1, y3, y6, σ => if y6 = (-1) then (some (σ)) else (Option.bind (fm_X6_kind y6 σ) fun r100 => Option.bind (α := hc_St) (if r100 = 18 then (Option.bind (fm_X6_number y6 σ) fun r110 => Option.bind (fm_X12_here r110 σ) fun r114 => some (r114)) else (Option.bind (fm_X6_kind y6 σ) fun r118 => if r118 = 19 then (Option.bind (fm_X6_number y6 σ) fun r128 => Option.bind (fm_X12_here r128 σ) fun r132 => some (r132)) else (Option.bind (rec 1 [y6] σ) fun r124 => some (r124.2)))) fun r106 => Option.bind (fm_X6_next y6 r106) fun r137 => lp_X13_switching_210 n k0 rec m y3 r137 r106)
/-- HomeCompiler$Generator.switching(II)V -/
def bd_X13_switching (n : Nat) (k0 : Nat) (rec : Nat → List Int32 → hc_St → Option (Int32 × hc_St)) (x1 : Int32) (x2 : Int32) (σ : hc_St) : Option (Int32 × hc_St) := Option.bind (fm_X12_label  σ) fun r1 => hl (pI r1.2 14 14 r1.1) fun σ5 => Option.bind (fm_X13_value n k0 x2 0 σ5) fun r6 => Option.bind (fm_X13_copy r6.1 0 r6.2) fun r10 => Option.bind (fm_X13_use r10.1 5 r10.2) fun r14 => Option.bind (fm_X6_next x2 r14.2) fun r18 => Option.bind (lp_X13_switching_50 n k0 rec n x2 ((gI σ 14 14)) r14.1 ((gI r14.2 14 14)) r18 r14.2) fun r85 => Option.bind (fm_X12_jump 0 r85.2 r85.1) fun r90 => Option.bind (fm_X6_next x2 r90) fun r94 => Option.bind (lp_X13_switching_210 n k0 rec n ((gI σ 14 14)) r94 r90) fun r141 => Option.bind (fm_X12_here ((gI r141 14 14)) r141) fun r146 => hl (pI r146 14 14 ((gI σ 14 14))) fun σ150 => some (0, σ150)
set_option maxRecDepth 20000 in
set_option maxHeartbeats 4000000 in
theorem ll_X13_switching_50 {l : Launch} {E : hc_E} {A : Nat → Prop} {am : Nat → Nat → Nat} {d : Nat} {kk : Nat} {X : hc_X} (n : Nat) (k0 : Nat) (rec : Nat → List Int32 → hc_St → Option (Int32 × hc_St)) (hD : kk + 2 * k0 + 15 ≤ d) (hem : X.2.2.2.2.2.2.2.2.2.1.exceptionTable.isEmpty = true) (IH : ∀ (w : Nat) (a : List Int32) (σ : hc_St) (r : (Int32 × hc_St)), rec w a σ = some r → ∀ am, okg_X13_statements l E A (d - 1) am w a σ r) {oc : hc_Oc} {σe : hc_St} (hC : hc_C hc_V0 E cX13_switching 7 RX13 none d oc σe (l, A, am, [13]) X) : ∀ (m : Nat) (σ : hc_St) (y2 : Int32) (y3 : Int32) (y4 : Int32) (y5 : Int32) (y6 : Int32) (rl : hc_St × Int32), lp_X13_switching_50 n k0 rec m y2 y3 y4 y5 y6 σ = some rl → (∀ am1, hc_At hc_V0 E 7 X 190 [(0, .ref (E.2.1 14)), (2, .int y2), (3, .int y3), (5, .int rl.2)] [] rl.1 am1 []) → ∀ am1, hc_At hc_V0 E 7 X 50 [(0, .ref (E.2.1 14)), (2, .int y2), (3, .int y3), (4, .int y4), (5, .int y5), (6, .int y6)] [] σ am1 [] := by
  have hd1 : 1 ≤ d := by omega
  have hd8 : 9 ≤ d := by omega
  have hd12 : 12 ≤ d := by omega
  intro m
  induction m with
  | zero =>
    intro σ y2 y3 y4 y5 y6 rl h
    cases h
  | succ m ih =>
    intro σ y2 y3 y4 y5 y6 rl h JX am1
    rw [lp_X13_switching_50] at h
    refine hr_iload hC dX13_switching_50 rfl ?_
    refine hr_iconst (v := (-1)) hC dX13_switching_52 rfl ?_
    refine hr_icmp_eq (x := _) hC 190 dX13_switching_53 (by decide) (fun c23 => ?_) (fun c23 => ?_)
    · rw [if_pos c23] at h
      obtain rfl := Option.some.inj h
      exact hr_sub _ rfl (JX am1)
    · rw [if_neg c23] at h
      refine hr_aload_n hC dX13_switching_56 rfl ?_
      refine hr_gO 6 hC F14_0 rfl dX13_switching_57 q795 ?_
      refine hr_iload hC dX13_switching_60 rfl ?_
      obtain ⟨r24, e25, h⟩ := hx_bind h
      refine hs_callV0 hC 6 [_] _ dX13_switching_62 q2049 q1369 q1370 q320 q1371 np_X6 rfl OB_6 pd_X6_kind (Nat.le_of_ble_eq_true rfl) hd1 (okX6_kind l E A (d - 1)  (by omega)  e25 am1) rfl ?_
      refine hr_bipush (v := 18) hC dX13_switching_65 rfl ?_
      obtain ⟨r30, e31, h⟩ := hx_bind h
      have J32 : ∀ am80, hc_At hc_V0 E 7 X 176 [(0, .ref (E.2.1 14)), (2, .int y2), (3, .int y3), (4, .int y4), (5, .int r30.2), (6, .int y6)] [] r30.1 am80 [] := by
        intro am80
        refine hr_aload_n hC dX13_switching_176 rfl ?_
        refine hr_gO 6 hC F14_0 rfl dX13_switching_177 q795 ?_
        refine hr_iload hC dX13_switching_180 rfl ?_
        obtain ⟨r81, e82, h⟩ := hx_bind h
        refine hs_callV0 hC 6 [_] _ dX13_switching_182 q2068 q1603 q1604 q320 q1605 np_X6 rfl OB_6 pd_X6_next (Nat.le_of_ble_eq_true rfl) hd1 (okX6_next l E A (d - 1)  (by omega)  e82 am80) rfl ?_
        refine hr_istore hC dX13_switching_185 (by decide) ?_
        refine hr_goto hC 50 dX13_switching_187 (by decide) ?_
        exact hr_sub _ rfl (ih _ _ _ _ _ _ _ h JX am80)
      clear h
      have h := e31
      refine hr_icmp_ne (x := _) hC 135 dX13_switching_67 (by decide) (fun c29 => ?_) (fun c29 => ?_)
      · rw [if_neg c29] at h
        refine hr_aload_n hC dX13_switching_135 rfl ?_
        refine hr_gO 6 hC F14_0 rfl dX13_switching_136 q795 ?_
        refine hr_iload hC dX13_switching_139 rfl ?_
        obtain ⟨r34, e35, h⟩ := hx_bind h
        refine hs_callV0 hC 6 [_] _ dX13_switching_141 q2049 q1369 q1370 q320 q1371 np_X6 rfl OB_6 pd_X6_kind (Nat.le_of_ble_eq_true rfl) hd1 (okX6_kind l E A (d - 1)  (by omega)  e35 am1) rfl ?_
        refine hr_bipush (v := 19) hC dX13_switching_144 rfl ?_
        refine hr_icmp_ne (x := _) hC 176 dX13_switching_146 (by decide) (fun c39 => ?_) (fun c39 => ?_)
        · rw [if_neg c39] at h
          obtain rfl := Option.some.inj h
          exact hr_sub _ rfl (J32 am1)
        · rw [if_pos c39] at h
          refine hr_aload_n hC dX13_switching_149 rfl ?_
          refine hr_gO 6 hC F14_0 rfl dX13_switching_150 q795 ?_
          refine hr_iload hC dX13_switching_153 rfl ?_
          refine hr_aload_n hC dX13_switching_155 rfl ?_
          refine hr_gO 13 hC F14_5 rfl dX13_switching_156 q800 ?_
          obtain ⟨r40, e41, h⟩ := hx_bind h
          refine hs_callV hC 13 [] _ dX13_switching_159 q1888 q1889 q1890 q326 q1891 np_X12 rfl OB_13 pd_X12_label (Nat.le_of_ble_eq_true rfl) hd1 (okX12_label l E A (d - 1)  (by omega)  e41 am1) (hc_rb rfl) rfl (fun am42 ha43 => ?_)
          obtain ⟨r44, e45, h⟩ := hx_bind h
          refine hs_callV0 hC 6 [_, _] _ dX13_switching_162 q2316 q1647 q1648 q320 q1649 np_X6 rfl OB_6 pd_X6_setNumber (Nat.le_of_ble_eq_true rfl) hd1 (okX6_setNumber l E A (d - 1)  (by omega)  e45 am42) rfl ?_
          refine hr_aload_n hC dX13_switching_165 rfl ?_
          refine hr_gO 6 hC F14_0 rfl dX13_switching_166 q795 ?_
          refine hr_iload hC dX13_switching_169 rfl ?_
          obtain ⟨r48, e49, h⟩ := hx_bind h
          refine hs_callV0 hC 6 [_] _ dX13_switching_171 q2050 q1970 q1971 q320 q1972 np_X6 rfl OB_6 pd_X6_number (Nat.le_of_ble_eq_true rfl) hd1 (okX6_number l E A (d - 1)  (by omega)  e49 am42) rfl ?_
          refine hr_istore hC dX13_switching_174 (by decide) ?_
          obtain rfl := Option.some.inj h
          exact hr_sub _ rfl (J32 am42)
      · rw [if_pos c29] at h
        refine hr_aload_n hC dX13_switching_70 rfl ?_
        refine hr_gO 6 hC F14_0 rfl dX13_switching_71 q795 ?_
        refine hr_iload hC dX13_switching_74 rfl ?_
        refine hr_aload_n hC dX13_switching_76 rfl ?_
        refine hr_gO 13 hC F14_5 rfl dX13_switching_77 q800 ?_
        obtain ⟨r52, e53, h⟩ := hx_bind h
        refine hs_callV hC 13 [] _ dX13_switching_80 q1888 q1889 q1890 q326 q1891 np_X12 rfl OB_13 pd_X12_label (Nat.le_of_ble_eq_true rfl) hd1 (okX12_label l E A (d - 1)  (by omega)  e53 am1) (hc_rb rfl) rfl (fun am54 ha55 => ?_)
        obtain ⟨r56, e57, h⟩ := hx_bind h
        refine hs_callV0 hC 6 [_, _] _ dX13_switching_83 q2316 q1647 q1648 q320 q1649 np_X6 rfl OB_6 pd_X6_setNumber (Nat.le_of_ble_eq_true rfl) hd1 (okX6_setNumber l E A (d - 1)  (by omega)  e57 am54) rfl ?_
        refine hr_aload_n hC dX13_switching_86 rfl ?_
        refine hr_gO 13 hC F14_5 rfl dX13_switching_87 q800 ?_
        refine hr_bipush (v := 6) hC dX13_switching_90 rfl ?_
        refine hr_aload_n hC dX13_switching_92 rfl ?_
        refine hr_gO 6 hC F14_0 rfl dX13_switching_93 q795 ?_
        refine hr_aload_n hC dX13_switching_96 rfl ?_
        refine hr_gO 6 hC F14_0 rfl dX13_switching_97 q795 ?_
        refine hr_iload hC dX13_switching_100 rfl ?_
        obtain ⟨r60, e61, h⟩ := hx_bind h
        refine hs_callV0 hC 6 [_] _ dX13_switching_102 q2048 q1576 q1577 q320 q1578 np_X6 rfl OB_6 pd_X6_first (Nat.le_of_ble_eq_true rfl) hd1 (okX6_first l E A (d - 1)  (by omega)  e61 am54) rfl ?_
        obtain ⟨r64, e65, h⟩ := hx_bind h
        refine hs_callV0 hC 6 [_] _ dX13_switching_105 q2099 q1586 q1587 q320 q1588 np_X6 rfl OB_6 pd_X6_value (Nat.le_of_ble_eq_true rfl) hd1 (okX6_value l E A (d - 1)  (by omega)  e65 am54) rfl ?_
        obtain ⟨r68, e69, h⟩ := hx_bind h
        refine hs_callV hC 13 [_, _] _ dX13_switching_108 q1908 q1909 q1910 q326 q1911 np_X12 rfl OB_13 pd_X12_set (Nat.le_of_ble_eq_true rfl) hd1 (okX12_set l E A (d - 1)  (by omega)  e69 am54) (hc_rb rfl) rfl (fun am70 ha71 => ?_)
        refine hr_aload_n hC dX13_switching_111 rfl ?_
        refine hr_gO 13 hC F14_5 rfl dX13_switching_112 q800 ?_
        refine hr_iconst (v := 0) hC dX13_switching_115 rfl ?_
        refine hr_iload hC dX13_switching_116 rfl ?_
        refine hr_bipush (v := 6) hC dX13_switching_118 rfl ?_
        refine hr_aload_n hC dX13_switching_120 rfl ?_
        refine hr_gO 6 hC F14_0 rfl dX13_switching_121 q795 ?_
        refine hr_iload hC dX13_switching_124 rfl ?_
        obtain ⟨r72, e73, h⟩ := hx_bind h
        refine hs_callV0 hC 6 [_] _ dX13_switching_126 q2050 q1970 q1971 q320 q1972 np_X6 rfl OB_6 pd_X6_number (Nat.le_of_ble_eq_true rfl) hd1 (okX6_number l E A (d - 1)  (by omega)  e73 am70) rfl ?_
        obtain ⟨r76, e77, h⟩ := hx_bind h
        refine hs_callV hC 13 [_, _, _, _] _ dX13_switching_129 q1987 q1988 q1989 q326 q1990 np_X12 rfl OB_13 pd_X12_branch (Nat.le_of_ble_eq_true rfl) hd1 (okX12_branch l E A (d - 1)  (by omega)  e77 am70) (hc_rb rfl) rfl (fun am78 ha79 => ?_)
        refine hr_goto hC 176 dX13_switching_132 (by decide) ?_
        obtain rfl := Option.some.inj h
        exact hr_sub _ rfl (J32 am78)
set_option maxRecDepth 20000 in
set_option maxHeartbeats 4000000 in
theorem ll_X13_switching_210 {l : Launch} {E : hc_E} {A : Nat → Prop} {am : Nat → Nat → Nat} {d : Nat} {kk : Nat} {X : hc_X} (n : Nat) (k0 : Nat) (rec : Nat → List Int32 → hc_St → Option (Int32 × hc_St)) (hD : kk + 2 * k0 + 15 ≤ d) (hem : X.2.2.2.2.2.2.2.2.2.1.exceptionTable.isEmpty = true) (IH : ∀ (w : Nat) (a : List Int32) (σ : hc_St) (r : (Int32 × hc_St)), rec w a σ = some r → ∀ am, okg_X13_statements l E A (d - 1) am w a σ r) {oc : hc_Oc} {σe : hc_St} (hC : hc_C hc_V0 E cX13_switching 7 RX13 none d oc σe (l, A, am, [13]) X) : ∀ (m : Nat) (σ : hc_St) (y3 : Int32) (y6 : Int32) (rl : hc_St), lp_X13_switching_210 n k0 rec m y3 y6 σ = some rl → (∀ am1, hc_At hc_V0 E 7 X 283 [(0, .ref (E.2.1 14)), (3, .int y3)] [] rl am1 []) → ∀ am1, hc_At hc_V0 E 7 X 210 [(0, .ref (E.2.1 14)), (3, .int y3), (6, .int y6)] [] σ am1 [] := by
  have hd1 : 1 ≤ d := by omega
  have hd8 : 9 ≤ d := by omega
  have hd12 : 12 ≤ d := by omega
  intro m
  induction m with
  | zero =>
    intro σ y3 y6 rl h
    cases h
  | succ m ih =>
    intro σ y3 y6 rl h JX am1
    rw [lp_X13_switching_210] at h
    refine hr_iload hC dX13_switching_210 rfl ?_
    refine hr_iconst (v := (-1)) hC dX13_switching_212 rfl ?_
    refine hr_icmp_eq (x := _) hC 283 dX13_switching_213 (by decide) (fun c99 => ?_) (fun c99 => ?_)
    · rw [if_pos c99] at h
      obtain rfl := Option.some.inj h
      exact hr_sub _ rfl (JX am1)
    · rw [if_neg c99] at h
      refine hr_aload_n hC dX13_switching_216 rfl ?_
      refine hr_gO 6 hC F14_0 rfl dX13_switching_217 q795 ?_
      refine hr_iload hC dX13_switching_220 rfl ?_
      obtain ⟨r100, e101, h⟩ := hx_bind h
      refine hs_callV0 hC 6 [_] _ dX13_switching_222 q2049 q1369 q1370 q320 q1371 np_X6 rfl OB_6 pd_X6_kind (Nat.le_of_ble_eq_true rfl) hd1 (okX6_kind l E A (d - 1)  (by omega)  e101 am1) rfl ?_
      refine hr_bipush (v := 18) hC dX13_switching_225 rfl ?_
      obtain ⟨r106, e107, h⟩ := hx_bind h
      have J108 : ∀ am136, hc_At hc_V0 E 7 X 269 [(0, .ref (E.2.1 14)), (3, .int y3), (6, .int y6)] [] r106 am136 [] := by
        intro am136
        refine hr_aload_n hC dX13_switching_269 rfl ?_
        refine hr_gO 6 hC F14_0 rfl dX13_switching_270 q795 ?_
        refine hr_iload hC dX13_switching_273 rfl ?_
        obtain ⟨r137, e138, h⟩ := hx_bind h
        refine hs_callV0 hC 6 [_] _ dX13_switching_275 q2068 q1603 q1604 q320 q1605 np_X6 rfl OB_6 pd_X6_next (Nat.le_of_ble_eq_true rfl) hd1 (okX6_next l E A (d - 1)  (by omega)  e138 am136) rfl ?_
        refine hr_istore hC dX13_switching_278 (by decide) ?_
        refine hr_goto hC 210 dX13_switching_280 (by decide) ?_
        exact hr_sub _ rfl (ih _ _ _ _ h JX am136)
      clear h
      have h := e107
      refine hr_icmp_eq (x := _) hC 244 dX13_switching_227 (by decide) (fun c105 => ?_) (fun c105 => ?_)
      · rw [if_pos c105] at h
        refine hr_aload_n hC dX13_switching_244 rfl ?_
        refine hr_gO 13 hC F14_5 rfl dX13_switching_245 q800 ?_
        refine hr_aload_n hC dX13_switching_248 rfl ?_
        refine hr_gO 6 hC F14_0 rfl dX13_switching_249 q795 ?_
        refine hr_iload hC dX13_switching_252 rfl ?_
        obtain ⟨r110, e111, h⟩ := hx_bind h
        refine hs_callV0 hC 6 [_] _ dX13_switching_254 q2050 q1970 q1971 q320 q1972 np_X6 rfl OB_6 pd_X6_number (Nat.le_of_ble_eq_true rfl) hd1 (okX6_number l E A (d - 1)  (by omega)  e111 am1) rfl ?_
        obtain ⟨r114, e115, h⟩ := hx_bind h
        refine hs_callV0 hC 13 [_] _ dX13_switching_257 q1927 q1928 q1929 q326 q1930 np_X12 rfl OB_13 pd_X12_here (Nat.le_of_ble_eq_true rfl) hd1 (okX12_here l E A (d - 1)  (by omega)  e115 am1) rfl ?_
        refine hr_goto hC 269 dX13_switching_260 (by decide) ?_
        obtain rfl := Option.some.inj h
        exact hr_sub _ rfl (J108 am1)
      · rw [if_neg c105] at h
        refine hr_aload_n hC dX13_switching_230 rfl ?_
        refine hr_gO 6 hC F14_0 rfl dX13_switching_231 q795 ?_
        refine hr_iload hC dX13_switching_234 rfl ?_
        obtain ⟨r118, e119, h⟩ := hx_bind h
        refine hs_callV0 hC 6 [_] _ dX13_switching_236 q2049 q1369 q1370 q320 q1371 np_X6 rfl OB_6 pd_X6_kind (Nat.le_of_ble_eq_true rfl) hd1 (okX6_kind l E A (d - 1)  (by omega)  e119 am1) rfl ?_
        refine hr_bipush (v := 19) hC dX13_switching_239 rfl ?_
        refine hr_icmp_ne (x := _) hC 263 dX13_switching_241 (by decide) (fun c123 => ?_) (fun c123 => ?_)
        · rw [if_neg c123] at h
          refine hr_aload_n hC dX13_switching_263 rfl ?_
          refine hr_iload hC dX13_switching_264 rfl ?_
          obtain ⟨r124, e125, h⟩ := hx_bind h
          refine hs_callV hC 14 [_] _ dX13_switching_266 q2073 q2075 qs108 q327 q2076 np_X13 rfl OB_14 pd_X13_statement (Nat.le_of_ble_eq_true rfl) hd1 (IH _ _ _ _ e125 am1) (hc_rb rfl) rfl (fun am126 ha127 => ?_)
          obtain rfl := Option.some.inj h
          exact hr_sub _ rfl (J108 am126)
        · rw [if_pos c123] at h
          refine hr_aload_n hC dX13_switching_244 rfl ?_
          refine hr_gO 13 hC F14_5 rfl dX13_switching_245 q800 ?_
          refine hr_aload_n hC dX13_switching_248 rfl ?_
          refine hr_gO 6 hC F14_0 rfl dX13_switching_249 q795 ?_
          refine hr_iload hC dX13_switching_252 rfl ?_
          obtain ⟨r128, e129, h⟩ := hx_bind h
          refine hs_callV0 hC 6 [_] _ dX13_switching_254 q2050 q1970 q1971 q320 q1972 np_X6 rfl OB_6 pd_X6_number (Nat.le_of_ble_eq_true rfl) hd1 (okX6_number l E A (d - 1)  (by omega)  e129 am1) rfl ?_
          obtain ⟨r132, e133, h⟩ := hx_bind h
          refine hs_callV0 hC 13 [_] _ dX13_switching_257 q1927 q1928 q1929 q326 q1930 np_X12 rfl OB_13 pd_X12_here (Nat.le_of_ble_eq_true rfl) hd1 (okX12_here l E A (d - 1)  (by omega)  e133 am1) rfl ?_
          refine hr_goto hC 269 dX13_switching_260 (by decide) ?_
          obtain rfl := Option.some.inj h
          exact hr_sub _ rfl (J108 am1)
set_option maxRecDepth 20000 in
set_option maxHeartbeats 4000000 in
theorem okbX13_switching (l : Launch) (E : hc_E) (A : Nat → Prop) (d : Nat) {kk : Nat} (n : Nat) (k0 : Nat) (rec : Nat → List Int32 → hc_St → Option (Int32 × hc_St)) (hD : kk + 2 * k0 + 15 ≤ d) (IH : ∀ (w : Nat) (a : List Int32) (σ : hc_St) (r : (Int32 × hc_St)), rec w a σ = some r → ∀ am, okg_X13_statements l E A (d - 1) am w a σ r) {x1 : Int32} {x2 : Int32} {σ : hc_St} {r : (Int32 × hc_St)} (h : bd_X13_switching n k0 rec x1 x2 σ = some r) (am : Nat → Nat → Nat) : hc_M l hc_V0 yX13_switching (ws_ yX13_switching cX13_switching 7 none) d E A [.ref (E.2.1 14), .int x1, .int x2] am [13] σ (.inl (none)) r.2 := by
  have hd1 : 1 ≤ d := by omega
  have hd8 : 9 ≤ d := by omega
  have hd12 : 12 ≤ d := by omega
  refine hc_enter2 (own := RX13) [(0, .ref (E.2.1 14)), (1, .int x1), (2, .int x2)] pl_X13 rfl hc_V0_st hc_G0_nd rfl (Nat.le_of_ble_eq_true rfl) (fun X hC hem => ?_)
  unfold bd_X13_switching at h
  refine hr_aload_n hC dX13_switching_0 rfl ?_
  refine hr_gI hC F14_14 dX13_switching_1 q809 ?_
  refine hr_istore_n hC dX13_switching_4 (by decide) ?_
  refine hr_aload_n hC dX13_switching_5 rfl ?_
  refine hr_aload_n hC dX13_switching_6 rfl ?_
  refine hr_gO 13 hC F14_5 rfl dX13_switching_7 q800 ?_
  obtain ⟨r1, e2, h⟩ := hx_bind h
  refine hs_callV hC 13 [] _ dX13_switching_10 q1888 q1889 q1890 q326 q1891 np_X12 rfl OB_13 pd_X12_label (Nat.le_of_ble_eq_true rfl) hd1 (okX12_label l E A (d - 1)  (by omega)  e2 am) (hc_rb rfl) rfl (fun am3 ha4 => ?_)
  obtain ⟨σ5, hσ5, h⟩ := hl_ok h
  refine hr_pI hC F14_14 PX13_14 dX13_switching_13 q809 ?_
  rw [← hσ5]
  refine hr_aload_n hC dX13_switching_16 rfl ?_
  refine hr_aload_n hC dX13_switching_17 rfl ?_
  refine hr_aload_n hC dX13_switching_18 rfl ?_
  refine hr_iload_n hC dX13_switching_19 rfl ?_
  refine hr_iconst (v := 0) hC dX13_switching_20 rfl ?_
  obtain ⟨r6, e7, h⟩ := hx_bind h
  refine hs_callV hC 14 [_, _] _ dX13_switching_21 q2101 q2103 qs112 q327 q2104 np_X13 rfl OB_14 pd_X13_value (Nat.le_of_ble_eq_true rfl) hd1 (okX13_value l E A (d - 1) n k0 (by omega)  e7 am3) (hc_rb rfl) rfl (fun am8 ha9 => ?_)
  refine hr_iconst (v := 0) hC dX13_switching_24 rfl ?_
  obtain ⟨r10, e11, h⟩ := hx_bind h
  refine hs_callV hC 14 [_, _] _ dX13_switching_25 q2203 q2205 qs127 q327 q2206 np_X13 rfl OB_14 pd_X13_copy (Nat.le_of_ble_eq_true rfl) hd1 (okX13_copy l E A (d - 1)  (by omega)  e11 am8) (hc_rb rfl) rfl (fun am12 ha13 => ?_)
  refine hr_iconst (v := 5) hC dX13_switching_28 rfl ?_
  obtain ⟨r14, e15, h⟩ := hx_bind h
  refine hs_callV hC 14 [_, _] _ dX13_switching_29 q2167 q2169 qs121 q327 q2170 np_X13 rfl OB_14 pd_X13_use (Nat.le_of_ble_eq_true rfl) hd1 (okX13_use l E A (d - 1)  (by omega)  e15 am12) (hc_rb rfl) rfl (fun am16 ha17 => ?_)
  refine hr_istore hC dX13_switching_32 (by decide) ?_
  refine hr_aload_n hC dX13_switching_34 rfl ?_
  refine hr_gI hC F14_14 dX13_switching_35 q809 ?_
  refine hr_istore hC dX13_switching_38 (by decide) ?_
  refine hr_aload_n hC dX13_switching_40 rfl ?_
  refine hr_gO 6 hC F14_0 rfl dX13_switching_41 q795 ?_
  refine hr_iload_n hC dX13_switching_44 rfl ?_
  obtain ⟨r18, e19, h⟩ := hx_bind h
  refine hs_callV0 hC 6 [_] _ dX13_switching_45 q2068 q1603 q1604 q320 q1605 np_X6 rfl OB_6 pd_X6_next (Nat.le_of_ble_eq_true rfl) hd1 (okX6_next l E A (d - 1)  (by omega)  e19 am16) rfl ?_
  refine hr_istore hC dX13_switching_48 (by decide) ?_
  obtain ⟨r85, e86, h⟩ := hx_bind h
  refine hr_sub _ rfl (ll_X13_switching_50 n k0 rec hD hem IH hC n _ _ _ _ _ _ _ e86 (fun am89 => ?_) am16)
  refine hr_aload_n hC dX13_switching_190 rfl ?_
  refine hr_gO 13 hC F14_5 rfl dX13_switching_191 q800 ?_
  refine hr_iconst (v := 0) hC dX13_switching_194 rfl ?_
  refine hr_iload hC dX13_switching_195 rfl ?_
  obtain ⟨r90, e91, h⟩ := hx_bind h
  refine hs_callV hC 13 [_, _] _ dX13_switching_197 q1904 q1905 q1906 q326 q1907 np_X12 rfl OB_13 pd_X12_jump (Nat.le_of_ble_eq_true rfl) hd1 (okX12_jump l E A (d - 1)  (by omega)  e91 am89) (hc_rb rfl) rfl (fun am92 ha93 => ?_)
  refine hr_aload_n hC dX13_switching_200 rfl ?_
  refine hr_gO 6 hC F14_0 rfl dX13_switching_201 q795 ?_
  refine hr_iload_n hC dX13_switching_204 rfl ?_
  obtain ⟨r94, e95, h⟩ := hx_bind h
  refine hs_callV0 hC 6 [_] _ dX13_switching_205 q2068 q1603 q1604 q320 q1605 np_X6 rfl OB_6 pd_X6_next (Nat.le_of_ble_eq_true rfl) hd1 (okX6_next l E A (d - 1)  (by omega)  e95 am92) rfl ?_
  refine hr_istore hC dX13_switching_208 (by decide) ?_
  obtain ⟨r141, e142, h⟩ := hx_bind h
  refine hr_sub _ rfl (ll_X13_switching_210 n k0 rec hD hem IH hC n _ _ _ _ e142 (fun am145 => ?_) am92)
  refine hr_aload_n hC dX13_switching_283 rfl ?_
  refine hr_gO 13 hC F14_5 rfl dX13_switching_284 q800 ?_
  refine hr_aload_n hC dX13_switching_287 rfl ?_
  refine hr_gI hC F14_14 dX13_switching_288 q809 ?_
  obtain ⟨r146, e147, h⟩ := hx_bind h
  refine hs_callV0 hC 13 [_] _ dX13_switching_291 q1927 q1928 q1929 q326 q1930 np_X12 rfl OB_13 pd_X12_here (Nat.le_of_ble_eq_true rfl) hd1 (okX12_here l E A (d - 1)  (by omega)  e147 am145) rfl ?_
  refine hr_aload_n hC dX13_switching_294 rfl ?_
  refine hr_iload_n hC dX13_switching_295 rfl ?_
  obtain ⟨σ150, hσ150, h⟩ := hl_ok h
  refine hr_pI hC F14_14 PX13_14 dX13_switching_296 q809 ?_
  rw [← hσ150]
  obtain rfl := Option.some.inj h
  exact hr_vret hC dX13_switching_299
def rc_X13_statements (n : Nat) (k0 : Nat) : Nat → Nat → List Int32 → hc_St → Option (Int32 × hc_St)
  | 0, _, _, _ => none
  | k + 1, w, a, σ => match w with
    | 0 => bd_X13_statements n k0 (rc_X13_statements n k0 k) (a.getD 0 0) σ
    | 1 => bd_X13_statement n k0 (rc_X13_statements n k0 k) (a.getD 0 0) σ
    | 2 => bd_X13_choosing n k0 (rc_X13_statements n k0 k) (a.getD 0 0) σ
    | 3 => bd_X13_looping n k0 (rc_X13_statements n k0 k) (a.getD 0 0) (a.getD 1 0) (a.getD 2 0) (a.getD 3 0) σ
    | 4 => bd_X13_counting n k0 (rc_X13_statements n k0 k) (a.getD 0 0) σ
    | 5 => bd_X13_switching n k0 (rc_X13_statements n k0 k) (a.getD 0 0) (a.getD 1 0) σ
    | _ => none
theorem okr_X13_statements (l : Launch) (E : hc_E) (A : Nat → Prop) (n : Nat) (k0 : Nat) : ∀ (k d : Nat), k + 2 * k0 + 15 ≤ d → ∀ (w : Nat) (a : List Int32) (σ : hc_St) (r : (Int32 × hc_St)), rc_X13_statements n k0 k w a σ = some r → ∀ am, okg_X13_statements l E A d am w a σ r
  | 0, d, _, w, a, σ, r, h, am => by cases h
  | k + 1, d, hd, w, a, σ, r, h, am => by
    have IH := okr_X13_statements l E A n k0 k (d - 1) (by omega)
    match w, h with
    | 0, h => exact okbX13_statements l E A d (kk := k) n k0 (rc_X13_statements n k0 k) (by omega) IH h am
    | 1, h => exact okbX13_statement l E A d (kk := k) n k0 (rc_X13_statements n k0 k) (by omega) IH h am
    | 2, h => exact okbX13_choosing l E A d (kk := k) n k0 (rc_X13_statements n k0 k) (by omega) IH h am
    | 3, h => exact okbX13_looping l E A d (kk := k) n k0 (rc_X13_statements n k0 k) (by omega) IH h am
    | 4, h => exact okbX13_counting l E A d (kk := k) n k0 (rc_X13_statements n k0 k) (by omega) IH h am
    | 5, h => exact okbX13_switching l E A d (kk := k) n k0 (rc_X13_statements n k0 k) (by omega) IH h am
    | w + 6, h => trivial
def fm_X13_statements (n : Nat) (k0 : Nat) (x1 : Int32) (σ : hc_St) : Option (Int32 × hc_St) := rc_X13_statements n k0 k0 0 [x1] σ
theorem okX13_statements (l : Launch) (E : hc_E) (A : Nat → Prop) (d : Nat) (n : Nat) (k0 : Nat) (hD : k0 + 2 * k0 + 15 ≤ d)  {x1 : Int32} {σ : hc_St} {r : (Int32 × hc_St)} (h : fm_X13_statements n k0 x1 σ = some r) (am : Nat → Nat → Nat) : hc_M l hc_V0 yX13_statements (ws_ yX13_statements cX13_statements 3 none) d E A [.ref (E.2.1 14), .int x1] am [13] σ (.inl (none)) r.2 := okr_X13_statements l E A n k0 k0 d hD 0 _ _ _ h am
def fm_X13_statement (n : Nat) (k0 : Nat) (x1 : Int32) (σ : hc_St) : Option (Int32 × hc_St) := rc_X13_statements n k0 k0 1 [x1] σ
theorem okX13_statement (l : Launch) (E : hc_E) (A : Nat → Prop) (d : Nat) (n : Nat) (k0 : Nat) (hD : k0 + 2 * k0 + 15 ≤ d)  {x1 : Int32} {σ : hc_St} {r : (Int32 × hc_St)} (h : fm_X13_statement n k0 x1 σ = some r) (am : Nat → Nat → Nat) : hc_M l hc_V0 yX13_statement (ws_ yX13_statement cX13_statement 4 none) d E A [.ref (E.2.1 14), .int x1] am [13] σ (.inl (none)) r.2 := okr_X13_statements l E A n k0 k0 d hD 1 _ _ _ h am
def fm_X13_choosing (n : Nat) (k0 : Nat) (x1 : Int32) (σ : hc_St) : Option (Int32 × hc_St) := rc_X13_statements n k0 k0 2 [x1] σ
theorem okX13_choosing (l : Launch) (E : hc_E) (A : Nat → Prop) (d : Nat) (n : Nat) (k0 : Nat) (hD : k0 + 2 * k0 + 15 ≤ d)  {x1 : Int32} {σ : hc_St} {r : (Int32 × hc_St)} (h : fm_X13_choosing n k0 x1 σ = some r) (am : Nat → Nat → Nat) : hc_M l hc_V0 yX13_choosing (ws_ yX13_choosing cX13_choosing 6 none) d E A [.ref (E.2.1 14), .int x1] am [13] σ (.inl (none)) r.2 := okr_X13_statements l E A n k0 k0 d hD 2 _ _ _ h am
def fm_X13_looping (n : Nat) (k0 : Nat) (x1 : Int32) (x2 : Int32) (x3 : Int32) (x4 : Int32) (σ : hc_St) : Option (Int32 × hc_St) := rc_X13_statements n k0 k0 3 [x1, x2, x3, x4] σ
theorem okX13_looping (l : Launch) (E : hc_E) (A : Nat → Prop) (d : Nat) (n : Nat) (k0 : Nat) (hD : k0 + 2 * k0 + 15 ≤ d)  {x1 : Int32} {x2 : Int32} {x3 : Int32} {x4 : Int32} {σ : hc_St} {r : (Int32 × hc_St)} (h : fm_X13_looping n k0 x1 x2 x3 x4 σ = some r) (am : Nat → Nat → Nat) : hc_M l hc_V0 yX13_looping (ws_ yX13_looping cX13_looping 9 none) d E A [.ref (E.2.1 14), .int x1, .int x2, .int x3, .int x4] am [13] σ (.inl (none)) r.2 := okr_X13_statements l E A n k0 k0 d hD 3 _ _ _ h am
def fm_X13_counting (n : Nat) (k0 : Nat) (x1 : Int32) (σ : hc_St) : Option (Int32 × hc_St) := rc_X13_statements n k0 k0 4 [x1] σ
theorem okX13_counting (l : Launch) (E : hc_E) (A : Nat → Prop) (d : Nat) (n : Nat) (k0 : Nat) (hD : k0 + 2 * k0 + 15 ≤ d)  {x1 : Int32} {σ : hc_St} {r : (Int32 × hc_St)} (h : fm_X13_counting n k0 x1 σ = some r) (am : Nat → Nat → Nat) : hc_M l hc_V0 yX13_counting (ws_ yX13_counting cX13_counting 4 none) d E A [.ref (E.2.1 14), .int x1] am [13] σ (.inl (none)) r.2 := okr_X13_statements l E A n k0 k0 d hD 4 _ _ _ h am
def fm_X13_switching (n : Nat) (k0 : Nat) (x1 : Int32) (x2 : Int32) (σ : hc_St) : Option (Int32 × hc_St) := rc_X13_statements n k0 k0 5 [x1, x2] σ
theorem okX13_switching (l : Launch) (E : hc_E) (A : Nat → Prop) (d : Nat) (n : Nat) (k0 : Nat) (hD : k0 + 2 * k0 + 15 ≤ d)  {x1 : Int32} {x2 : Int32} {σ : hc_St} {r : (Int32 × hc_St)} (h : fm_X13_switching n k0 x1 x2 σ = some r) (am : Nat → Nat → Nat) : hc_M l hc_V0 yX13_switching (ws_ yX13_switching cX13_switching 7 none) d E A [.ref (E.2.1 14), .int x1, .int x2] am [13] σ (.inl (none)) r.2 := okr_X13_statements l E A n k0 k0 d hD 5 _ _ _ h am
/-- HomeCompiler$Emitter.fill(III)V -/
def fm_X12_fill  (x1 : Int32) (x2 : Int32) (x3 : Int32) (σ : hc_St) : Option hc_St := hl (pI σ 13 1 x1) fun σ1 => Option.bind (fm_X12_setLong x2 x3 σ1) fun r2 => hl (pI r2 13 1 ((gI σ 13 1))) fun σ6 => some σ6
set_option maxRecDepth 20000 in
set_option maxHeartbeats 4000000 in
theorem okX12_fill (l : Launch) (E : hc_E) (A : Nat → Prop) (d : Nat)  (hD : 8 ≤ d) {x1 : Int32} {x2 : Int32} {x3 : Int32} {σ : hc_St} {r : hc_St} (h : fm_X12_fill  x1 x2 x3 σ = some r) (am : Nat → Nat → Nat) : hc_M l hc_V0 yX12_fill (ws_ yX12_fill cX12_fill 5 none) d E A [.ref (E.2.1 13), .int x1, .int x2, .int x3] am [13] σ (.inl none) r := by
  have hd1 : 1 ≤ d := by omega
  refine hc_enter2 (own := RX12) [(0, .ref (E.2.1 13)), (1, .int x1), (2, .int x2), (3, .int x3)] pl_X12 rfl hc_V0_st hc_G0_nd rfl (Nat.le_of_ble_eq_true rfl) (fun X hC hem => ?_)
  unfold fm_X12_fill at h
  refine hr_aload_n hC dX12_fill_0 rfl ?_
  refine hr_gI hC F13_1 dX12_fill_1 q717 ?_
  refine hr_istore hC dX12_fill_4 (by decide) ?_
  refine hr_aload_n hC dX12_fill_6 rfl ?_
  refine hr_iload_n hC dX12_fill_7 rfl ?_
  obtain ⟨σ1, hσ1, h⟩ := hl_ok h
  refine hr_pI hC F13_1 PX12_1 dX12_fill_8 q717 ?_
  rw [← hσ1]
  refine hr_aload_n hC dX12_fill_11 rfl ?_
  refine hr_iload_n hC dX12_fill_12 rfl ?_
  refine hr_iload_n hC dX12_fill_13 rfl ?_
  obtain ⟨r2, e3, h⟩ := hx_bind h
  refine hs_callV hC 13 [_, _] _ dX12_fill_14 q1916 q1918 qs96 q326 q1919 np_X12 rfl OB_13 pd_X12_setLong (Nat.le_of_ble_eq_true rfl) hd1 (okX12_setLong l E A (d - 1)  (by omega)  e3 am) (hc_rb rfl) rfl (fun am4 ha5 => ?_)
  refine hr_aload_n hC dX12_fill_17 rfl ?_
  refine hr_iload hC dX12_fill_18 rfl ?_
  obtain ⟨σ6, hσ6, h⟩ := hl_ok h
  refine hr_pI hC F13_1 PX12_1 dX12_fill_20 q717 ?_
  rw [← hσ6]
  obtain rfl := Option.some.inj h
  exact hr_vret hC dX12_fill_23
def lp_X13_finish_52 (n : Nat) : Nat → Int32 → Int32 → Int32 → hc_St → Option (hc_St)
  | 0, _, _, _, _ => none
  | m + 1, y1, y2, y3, σ => Option.bind (fm_X15_used  σ) fun r17 => if r17 ≤ y3 then (some (σ)) else (Option.bind (fm_X15_register y3 σ) fun r23 => Option.bind (fm_X12_loadAt r23 5 ((((y2 - 8)) - ((4 * y3)))) 7 σ) fun r27 => lp_X13_finish_52 n m y1 y2 ((y3 + 1)) r27)
/-- HomeCompiler$Generator.finish(I)V -/
def fm_X13_finish (n : Nat) (x1 : Int32) (σ : hc_St) : Option hc_St := Option.bind (fm_X15_parameterWords  σ) fun r1 => Option.bind (fm_X12_move 5 8 σ) fun r5 => Option.bind (fm_X12_loadAt 1 5 ((((-4)) * ((r1 + 1)))) 7 r5) fun r9 => Option.bind (fm_X12_loadAt 8 5 ((((((-4)) * ((r1 + 1)))) - 4)) 7 r9) fun r13 => Option.bind (lp_X13_finish_52 n n x1 ((((-4)) * ((r1 + 1)))) 0 r13) fun r31 => Option.bind (fm_X12_move 2 5 r31) fun r36 => Option.bind (fm_X12_add 4 4 x1 6 r36) fun r40 => Option.bind (fm_X12_emit 32871 r40) fun r44 => some r44
set_option maxRecDepth 20000 in
set_option maxHeartbeats 4000000 in
theorem ll_X13_finish_52 {l : Launch} {E : hc_E} {A : Nat → Prop} {am : Nat → Nat → Nat} {d : Nat} {X : hc_X} (n : Nat) (hD : 11 ≤ d) (hem : X.2.2.2.2.2.2.2.2.2.1.exceptionTable.isEmpty = true) {oc : hc_Oc} {σe : hc_St} (hC : hc_C hc_V0 E cX13_finish 4 RX13 none d oc σe (l, A, am, [13]) X) : ∀ (m : Nat) (σ : hc_St) (y1 : Int32) (y2 : Int32) (y3 : Int32) (rl : hc_St), lp_X13_finish_52 n m y1 y2 y3 σ = some rl → (∀ am1, hc_At hc_V0 E 4 X 91 [(0, .ref (E.2.1 14)), (1, .int y1)] [] rl am1 []) → ∀ am1, hc_At hc_V0 E 4 X 52 [(0, .ref (E.2.1 14)), (1, .int y1), (2, .int y2), (3, .int y3)] [] σ am1 [] := by
  have hd1 : 1 ≤ d := by omega
  have hd8 : 9 ≤ d := by omega
  intro m
  induction m with
  | zero =>
    intro σ y1 y2 y3 rl h
    cases h
  | succ m ih =>
    intro σ y1 y2 y3 rl h JX am1
    rw [lp_X13_finish_52] at h
    refine hr_iload_n hC dX13_finish_52 rfl ?_
    refine hr_aload_n hC dX13_finish_53 rfl ?_
    refine hr_gO 16 hC F14_7 rfl dX13_finish_54 q802 ?_
    obtain ⟨r17, e18, h⟩ := hx_bind h
    refine hs_callV0 hC 16 [] _ dX13_finish_57 q2026 q2027 q2028 q329 q2029 np_X15 rfl OB_16 pd_X15_used (Nat.le_of_ble_eq_true rfl) hd1 (okX15_used l E A (d - 1)  (by omega)  e18 am1) rfl ?_
    refine hr_icmp_ge (x := _) hC 91 dX13_finish_60 (by decide) (fun c22 => ?_) (fun c22 => ?_)
    · rw [if_pos c22] at h
      obtain rfl := Option.some.inj h
      exact hr_sub _ rfl (JX am1)
    · rw [if_neg c22] at h
      refine hr_aload_n hC dX13_finish_63 rfl ?_
      refine hr_gO 13 hC F14_5 rfl dX13_finish_64 q800 ?_
      refine hr_iload_n hC dX13_finish_67 rfl ?_
      obtain ⟨r23, e24, h⟩ := hx_bind h
      refine hs_callS0 hC [_] _ dX13_finish_68 q2030 q1963 q329 q1964 np_X15 rfl pd_X15_register (Nat.le_of_ble_eq_true rfl) hd1 (okX15_register l E A (d - 1)  (by omega)  e24 am1) rfl ?_
      refine hr_iconst (v := 5) hC dX13_finish_71 rfl ?_
      refine hr_iload_n hC dX13_finish_72 rfl ?_
      refine hr_bipush (v := 8) hC dX13_finish_73 rfl ?_
      refine hr_isub hC dX13_finish_75 ?_
      refine hr_iconst (v := 4) hC dX13_finish_76 rfl ?_
      refine hr_iload_n hC dX13_finish_77 rfl ?_
      refine hr_imul hC dX13_finish_78 ?_
      refine hr_isub hC dX13_finish_79 ?_
      refine hr_bipush (v := 7) hC dX13_finish_80 rfl ?_
      obtain ⟨r27, e28, h⟩ := hx_bind h
      refine hs_callV hC 13 [_, _, _, _] _ dX13_finish_82 q2056 q2057 q2058 q326 q2059 np_X12 rfl OB_13 pd_X12_loadAt (Nat.le_of_ble_eq_true rfl) hd1 (okX12_loadAt l E A (d - 1)  (by omega)  e28 am1) (hc_rb rfl) rfl (fun am29 ha30 => ?_)
      refine hr_iinc (v := y3 + 1) hC dX13_finish_85 rfl rfl (by decide) ?_
      refine hr_goto hC 52 dX13_finish_88 (by decide) ?_
      exact hr_sub _ rfl (ih _ _ _ _ _ h JX am29)
set_option maxRecDepth 20000 in
set_option maxHeartbeats 4000000 in
theorem okX13_finish (l : Launch) (E : hc_E) (A : Nat → Prop) (d : Nat) (n : Nat) (hD : 11 ≤ d) {x1 : Int32} {σ : hc_St} {r : hc_St} (h : fm_X13_finish n x1 σ = some r) (am : Nat → Nat → Nat) : hc_M l hc_V0 yX13_finish (ws_ yX13_finish cX13_finish 4 none) d E A [.ref (E.2.1 14), .int x1] am [13] σ (.inl none) r := by
  have hd1 : 1 ≤ d := by omega
  have hd8 : 9 ≤ d := by omega
  refine hc_enter2 (own := RX13) [(0, .ref (E.2.1 14)), (1, .int x1)] pl_X13 rfl hc_V0_st hc_G0_nd rfl (Nat.le_of_ble_eq_true rfl) (fun X hC hem => ?_)
  unfold fm_X13_finish at h
  refine hr_bipush (v := (-4)) hC dX13_finish_0 rfl ?_
  refine hr_aload_n hC dX13_finish_2 rfl ?_
  refine hr_gO 16 hC F14_7 rfl dX13_finish_3 q802 ?_
  obtain ⟨r1, e2, h⟩ := hx_bind h
  refine hs_callV0 hC 16 [] _ dX13_finish_6 q2016 q2017 q2018 q329 q2019 np_X15 rfl OB_16 pd_X15_parameterWords (Nat.le_of_ble_eq_true rfl) hd1 (okX15_parameterWords l E A (d - 1)  (by omega)  e2 am) rfl ?_
  refine hr_iconst (v := 1) hC dX13_finish_9 rfl ?_
  refine hr_iadd hC dX13_finish_10 ?_
  refine hr_imul hC dX13_finish_11 ?_
  refine hr_istore_n hC dX13_finish_12 (by decide) ?_
  refine hr_aload_n hC dX13_finish_13 rfl ?_
  refine hr_gO 13 hC F14_5 rfl dX13_finish_14 q800 ?_
  refine hr_iconst (v := 5) hC dX13_finish_17 rfl ?_
  refine hr_bipush (v := 8) hC dX13_finish_18 rfl ?_
  obtain ⟨r5, e6, h⟩ := hx_bind h
  refine hs_callV hC 13 [_, _] _ dX13_finish_20 q2007 q2008 q2009 q326 q2010 np_X12 rfl OB_13 pd_X12_move (Nat.le_of_ble_eq_true rfl) hd1 (okX12_move l E A (d - 1)  (by omega)  e6 am) (hc_rb rfl) rfl (fun am7 ha8 => ?_)
  refine hr_aload_n hC dX13_finish_23 rfl ?_
  refine hr_gO 13 hC F14_5 rfl dX13_finish_24 q800 ?_
  refine hr_iconst (v := 1) hC dX13_finish_27 rfl ?_
  refine hr_iconst (v := 5) hC dX13_finish_28 rfl ?_
  refine hr_iload_n hC dX13_finish_29 rfl ?_
  refine hr_bipush (v := 7) hC dX13_finish_30 rfl ?_
  obtain ⟨r9, e10, h⟩ := hx_bind h
  refine hs_callV hC 13 [_, _, _, _] _ dX13_finish_32 q2056 q2057 q2058 q326 q2059 np_X12 rfl OB_13 pd_X12_loadAt (Nat.le_of_ble_eq_true rfl) hd1 (okX12_loadAt l E A (d - 1)  (by omega)  e10 am7) (hc_rb rfl) rfl (fun am11 ha12 => ?_)
  refine hr_aload_n hC dX13_finish_35 rfl ?_
  refine hr_gO 13 hC F14_5 rfl dX13_finish_36 q800 ?_
  refine hr_bipush (v := 8) hC dX13_finish_39 rfl ?_
  refine hr_iconst (v := 5) hC dX13_finish_41 rfl ?_
  refine hr_iload_n hC dX13_finish_42 rfl ?_
  refine hr_iconst (v := 4) hC dX13_finish_43 rfl ?_
  refine hr_isub hC dX13_finish_44 ?_
  refine hr_bipush (v := 7) hC dX13_finish_45 rfl ?_
  obtain ⟨r13, e14, h⟩ := hx_bind h
  refine hs_callV hC 13 [_, _, _, _] _ dX13_finish_47 q2056 q2057 q2058 q326 q2059 np_X12 rfl OB_13 pd_X12_loadAt (Nat.le_of_ble_eq_true rfl) hd1 (okX12_loadAt l E A (d - 1)  (by omega)  e14 am11) (hc_rb rfl) rfl (fun am15 ha16 => ?_)
  refine hr_iconst (v := 0) hC dX13_finish_50 rfl ?_
  refine hr_istore_n hC dX13_finish_51 (by decide) ?_
  obtain ⟨r31, e32, h⟩ := hx_bind h
  refine hr_sub _ rfl (ll_X13_finish_52 n hD hem hC n _ _ _ _ _ e32 (fun am35 => ?_) am15)
  refine hr_aload_n hC dX13_finish_91 rfl ?_
  refine hr_gO 13 hC F14_5 rfl dX13_finish_92 q800 ?_
  refine hr_iconst (v := 2) hC dX13_finish_95 rfl ?_
  refine hr_iconst (v := 5) hC dX13_finish_96 rfl ?_
  obtain ⟨r36, e37, h⟩ := hx_bind h
  refine hs_callV hC 13 [_, _] _ dX13_finish_97 q2007 q2008 q2009 q326 q2010 np_X12 rfl OB_13 pd_X12_move (Nat.le_of_ble_eq_true rfl) hd1 (okX12_move l E A (d - 1)  (by omega)  e37 am35) (hc_rb rfl) rfl (fun am38 ha39 => ?_)
  refine hr_aload_n hC dX13_finish_100 rfl ?_
  refine hr_gO 13 hC F14_5 rfl dX13_finish_101 q800 ?_
  refine hr_iconst (v := 4) hC dX13_finish_104 rfl ?_
  refine hr_iconst (v := 4) hC dX13_finish_105 rfl ?_
  refine hr_iload_n hC dX13_finish_106 rfl ?_
  refine hr_bipush (v := 6) hC dX13_finish_107 rfl ?_
  obtain ⟨r40, e41, h⟩ := hx_bind h
  refine hs_callV hC 13 [_, _, _, _] _ dX13_finish_109 q1994 q1995 q1996 q326 q1997 np_X12 rfl OB_13 pd_X12_add (Nat.le_of_ble_eq_true rfl) hd1 (okX12_add l E A (d - 1)  (by omega)  e41 am38) (hc_rb rfl) rfl (fun am42 ha43 => ?_)
  refine hr_aload_n hC dX13_finish_112 rfl ?_
  refine hr_gO 13 hC F14_5 rfl dX13_finish_113 q800 ?_
  refine hr_ldc hC dX13_finish_116 q2329 ?_
  obtain ⟨r44, e45, h⟩ := hx_bind h
  refine hs_callV hC 13 [_] _ dX13_finish_118 q2176 q1901 q1902 q326 q1903 np_X12 rfl OB_13 pd_X12_emit (Nat.le_of_ble_eq_true rfl) hd1 (okX12_emit l E A (d - 1)  (by omega)  e45 am42) (hc_rb rfl) rfl (fun am46 ha47 => ?_)
  obtain rfl := Option.some.inj h
  exact hr_vret hC dX13_finish_121
def lp_X13_function_118 (n : Nat) (k0 : Nat) : Nat → Int32 → Int32 → Int32 → hc_St → Option (Int32)
  | 0, _, _, _, _ => none
  | m + 1, y3, y4, y5, σ => Option.bind (fm_X6_kind y5 σ) fun r51 => if r51 = 5 then (Option.bind (fm_X6_next y5 σ) fun r57 => lp_X13_function_118 n k0 m y3 y4 r57 σ) else (some (y5))
/-- HomeCompiler$Generator.function(II)V -/
def fm_X13_function (n : Nat) (k0 : Nat) (x1 : Int32) (x2 : Int32) (σ : hc_St) : Option hc_St := Option.bind (fm_X15_find n k0 x2 x1 σ) fun r1 => hl (pI r1 14 11 0) fun σ5 => Option.bind (fm_X12_label  σ5) fun r6 => hl (pI r6.2 14 12 r6.1) fun σ10 => Option.bind (fm_X6_op x2 σ10) fun r11 => hl (pI σ10 14 13 r11) fun σ15 => hl (pI σ15 14 14 ((-1))) fun σ16 => hl (pI σ16 14 15 ((-1))) fun σ17 => hk (inb x1 (gL σ17 14 8)) <| Option.bind (fm_X12_here ((gC σ17 14 8 x1)) σ17) fun r19 => Option.bind (fm_X13_takeWork  r19) fun r23 => Option.bind (fm_X8_frame x1 r23) fun r27 => Option.bind (fm_X12_add 4 4 ((-r27)) 5 r23) fun r31 => Option.bind (fm_X13_end 18 r31) fun r35 => Option.bind (fm_X12_branch 4 4 0 r35 r31) fun r39 => Option.bind (fm_X13_begin n x2 r39) fun r43 => Option.bind (fm_X6_first x2 r43.2) fun r47 => Option.bind (lp_X13_function_118 n k0 n r27 r43.1 r47 r43.2) fun r61 => Option.bind (fm_X13_statements n k0 r61 r43.2) fun r66 => Option.bind (fm_X12_move 10 0 r66.2) fun r70 => Option.bind (fm_X12_here ((gI r70 14 12)) r70) fun r74 => Option.bind (fm_X15_words  r74) fun r78 => Option.bind (fm_X12_fill r43.1 6 ((((-4)) * ((r78 + ((gI r74 14 11)))))) r74) fun r82 => Option.bind (fm_X13_finish n r27 r82) fun r86 => some r86
set_option maxRecDepth 20000 in
set_option maxHeartbeats 4000000 in
theorem ll_X13_function_118 {l : Launch} {E : hc_E} {A : Nat → Prop} {am : Nat → Nat → Nat} {d : Nat} {X : hc_X} (n : Nat) (k0 : Nat) (hD : 3 * k0 + 16 ≤ d) (hem : X.2.2.2.2.2.2.2.2.2.1.exceptionTable.isEmpty = true) {oc : hc_Oc} {σe : hc_St} (hC : hc_C hc_V0 E cX13_function 6 RX13 none d oc σe (l, A, am, [13, 16]) X) : ∀ (m : Nat) (σ : hc_St) (y3 : Int32) (y4 : Int32) (y5 : Int32) (rl : Int32) (am1 : Nat → Nat → Nat), lp_X13_function_118 n k0 m y3 y4 y5 σ = some rl → (hc_At hc_V0 E 6 X 145 [(0, .ref (E.2.1 14)), (3, .int y3), (4, .int y4), (5, .int rl)] [] σ am1 []) → hc_At hc_V0 E 6 X 118 [(0, .ref (E.2.1 14)), (3, .int y3), (4, .int y4), (5, .int y5)] [] σ am1 [] := by
  have hd1 : 1 ≤ d := by omega
  have hd8 : 9 ≤ d := by omega
  have hd12 : 12 ≤ d := by omega
  intro m
  induction m with
  | zero =>
    intro σ y3 y4 y5 rl am1 h
    cases h
  | succ m ih =>
    intro σ y3 y4 y5 rl am1 h JX
    rw [lp_X13_function_118] at h
    refine hr_aload_n hC dX13_function_118 rfl ?_
    refine hr_gO 6 hC F14_0 rfl dX13_function_119 q795 ?_
    refine hr_iload hC dX13_function_122 rfl ?_
    obtain ⟨r51, e52, h⟩ := hx_bind h
    refine hs_callV0 hC 6 [_] _ dX13_function_124 q2049 q1369 q1370 q320 q1371 np_X6 rfl OB_6 pd_X6_kind (Nat.le_of_ble_eq_true rfl) hd1 (okX6_kind l E A (d - 1)  (by omega)  e52 am1) rfl ?_
    refine hr_iconst (v := 5) hC dX13_function_127 rfl ?_
    refine hr_icmp_ne (x := _) hC 145 dX13_function_128 (by decide) (fun c56 => ?_) (fun c56 => ?_)
    · rw [if_neg c56] at h
      obtain rfl := Option.some.inj h
      exact hr_sub _ rfl (JX)
    · rw [if_pos c56] at h
      refine hr_aload_n hC dX13_function_131 rfl ?_
      refine hr_gO 6 hC F14_0 rfl dX13_function_132 q795 ?_
      refine hr_iload hC dX13_function_135 rfl ?_
      obtain ⟨r57, e58, h⟩ := hx_bind h
      refine hs_callV0 hC 6 [_] _ dX13_function_137 q2068 q1603 q1604 q320 q1605 np_X6 rfl OB_6 pd_X6_next (Nat.le_of_ble_eq_true rfl) hd1 (okX6_next l E A (d - 1)  (by omega)  e58 am1) rfl ?_
      refine hr_istore hC dX13_function_140 (by decide) ?_
      refine hr_goto hC 118 dX13_function_142 (by decide) ?_
      exact hr_sub _ rfl (ih _ _ _ _ _ am1 h JX)
set_option maxRecDepth 20000 in
set_option maxHeartbeats 4000000 in
theorem okX13_function (l : Launch) (E : hc_E) (A : Nat → Prop) (d : Nat) (n : Nat) (k0 : Nat) (hD : 3 * k0 + 16 ≤ d) {x1 : Int32} {x2 : Int32} {σ : hc_St} {r : hc_St} (h : fm_X13_function n k0 x1 x2 σ = some r) (am : Nat → Nat → Nat) : hc_M l hc_V0 yX13_function (ws_ yX13_function cX13_function 6 none) d E A [.ref (E.2.1 14), .int x1, .int x2] am [13, 16] σ (.inl none) r := by
  have hd1 : 1 ≤ d := by omega
  have hd8 : 9 ≤ d := by omega
  have hd12 : 12 ≤ d := by omega
  refine hc_enter2 (own := RX13) [(0, .ref (E.2.1 14)), (1, .int x1), (2, .int x2)] pl_X13 rfl hc_V0_st hc_G0_nd rfl (Nat.le_of_ble_eq_true rfl) (fun X hC hem => ?_)
  unfold fm_X13_function at h
  refine hr_aload_n hC dX13_function_0 rfl ?_
  refine hr_gO 16 hC F14_7 rfl dX13_function_1 q802 ?_
  refine hr_iload_n hC dX13_function_4 rfl ?_
  refine hr_iload_n hC dX13_function_5 rfl ?_
  obtain ⟨r1, e2, h⟩ := hx_bind h
  refine hs_callV hC 16 [_, _] _ dX13_function_6 q1939 q1940 q1941 q329 q1942 np_X15 rfl OB_16 pd_X15_find (Nat.le_of_ble_eq_true rfl) hd1 (okX15_find l E A (d - 1) n k0 (by omega)  e2 am) (hc_rb rfl) rfl (fun am3 ha4 => ?_)
  refine hr_aload_n hC dX13_function_9 rfl ?_
  refine hr_iconst (v := 0) hC dX13_function_10 rfl ?_
  obtain ⟨σ5, hσ5, h⟩ := hl_ok h
  refine hr_pI hC F14_11 PX13_11 dX13_function_11 q806 ?_
  rw [← hσ5]
  refine hr_aload_n hC dX13_function_14 rfl ?_
  refine hr_aload_n hC dX13_function_15 rfl ?_
  refine hr_gO 13 hC F14_5 rfl dX13_function_16 q800 ?_
  obtain ⟨r6, e7, h⟩ := hx_bind h
  refine hs_callV hC 13 [] _ dX13_function_19 q1888 q1889 q1890 q326 q1891 np_X12 rfl OB_13 pd_X12_label (Nat.le_of_ble_eq_true rfl) hd1 (okX12_label l E A (d - 1)  (by omega)  e7 am3) (hc_rb rfl) rfl (fun am8 ha9 => ?_)
  obtain ⟨σ10, hσ10, h⟩ := hl_ok h
  refine hr_pI hC F14_12 PX13_12 dX13_function_22 q807 ?_
  rw [← hσ10]
  refine hr_aload_n hC dX13_function_25 rfl ?_
  refine hr_aload_n hC dX13_function_26 rfl ?_
  refine hr_gO 6 hC F14_0 rfl dX13_function_27 q795 ?_
  refine hr_iload_n hC dX13_function_30 rfl ?_
  obtain ⟨r11, e12, h⟩ := hx_bind h
  refine hs_callV0 hC 6 [_] _ dX13_function_31 q1978 q1639 q1640 q320 q1641 np_X6 rfl OB_6 pd_X6_op (Nat.le_of_ble_eq_true rfl) hd1 (okX6_op l E A (d - 1)  (by omega)  e12 am8) rfl ?_
  obtain ⟨σ15, hσ15, h⟩ := hl_ok h
  refine hr_pI hC F14_13 PX13_13 dX13_function_34 q808 ?_
  rw [← hσ15]
  refine hr_aload_n hC dX13_function_37 rfl ?_
  refine hr_iconst (v := (-1)) hC dX13_function_38 rfl ?_
  obtain ⟨σ16, hσ16, h⟩ := hl_ok h
  refine hr_pI hC F14_14 PX13_14 dX13_function_39 q809 ?_
  rw [← hσ16]
  refine hr_aload_n hC dX13_function_42 rfl ?_
  refine hr_iconst (v := (-1)) hC dX13_function_43 rfl ?_
  obtain ⟨σ17, hσ17, h⟩ := hl_ok h
  refine hr_pI hC F14_15 PX13_15 dX13_function_44 q810 ?_
  rw [← hσ17]
  refine hr_aload_n hC dX13_function_47 rfl ?_
  refine hr_gO 13 hC F14_5 rfl dX13_function_48 q800 ?_
  refine hr_aload_n hC dX13_function_51 rfl ?_
  refine hr_gA hC F14_8 rfl dX13_function_52 q803 ?_
  refine hr_iload_n hC dX13_function_55 rfl ?_
  obtain ⟨c18, h⟩ := hk_ok h
  refine hs_iald hC A14_8 c18 dX13_function_56 ?_
  obtain ⟨r19, e20, h⟩ := hx_bind h
  refine hs_callV0 hC 13 [_] _ dX13_function_57 q1927 q1928 q1929 q326 q1930 np_X12 rfl OB_13 pd_X12_here (Nat.le_of_ble_eq_true rfl) hd1 (okX12_here l E A (d - 1)  (by omega)  e20 am8) rfl ?_
  refine hr_aload_n hC dX13_function_60 rfl ?_
  obtain ⟨r23, e24, h⟩ := hx_bind h
  refine hs_callV hC 14 [] _ dX13_function_61 q1979 q1981 qs103 q327 q1982 np_X13 rfl OB_14 pd_X13_takeWork (Nat.le_of_ble_eq_true rfl) hd1 (okX13_takeWork l E A (d - 1)  (by omega)  e24 am8) (hc_rb rfl) rfl (fun am25 ha26 => ?_)
  refine hr_aload_n hC dX13_function_64 rfl ?_
  refine hr_gO 8 hC F14_1 rfl dX13_function_65 q796 ?_
  refine hr_iload_n hC dX13_function_68 rfl ?_
  obtain ⟨r27, e28, h⟩ := hx_bind h
  refine hs_callV0 hC 8 [_] _ dX13_function_69 q1993 q1837 q1838 q322 q1839 np_X8 rfl OB_8 pd_X8_frame (Nat.le_of_ble_eq_true rfl) hd1 (okX8_frame l E A (d - 1)  (by omega)  e28 am25) rfl ?_
  refine hr_istore_n hC dX13_function_72 (by decide) ?_
  refine hr_aload_n hC dX13_function_73 rfl ?_
  refine hr_gO 13 hC F14_5 rfl dX13_function_74 q800 ?_
  refine hr_iconst (v := 4) hC dX13_function_77 rfl ?_
  refine hr_iconst (v := 4) hC dX13_function_78 rfl ?_
  refine hr_iload_n hC dX13_function_79 rfl ?_
  refine hr_ineg hC dX13_function_80 ?_
  refine hr_iconst (v := 5) hC dX13_function_81 rfl ?_
  obtain ⟨r31, e32, h⟩ := hx_bind h
  refine hs_callV hC 13 [_, _, _, _] _ dX13_function_82 q1994 q1995 q1996 q326 q1997 np_X12 rfl OB_13 pd_X12_add (Nat.le_of_ble_eq_true rfl) hd1 (okX12_add l E A (d - 1)  (by omega)  e32 am25) (hc_rb rfl) rfl (fun am33 ha34 => ?_)
  refine hr_aload_n hC dX13_function_85 rfl ?_
  refine hr_gO 13 hC F14_5 rfl dX13_function_86 q800 ?_
  refine hr_iconst (v := 4) hC dX13_function_89 rfl ?_
  refine hr_iconst (v := 4) hC dX13_function_90 rfl ?_
  refine hr_iconst (v := 0) hC dX13_function_91 rfl ?_
  refine hr_aload_n hC dX13_function_92 rfl ?_
  refine hr_bipush (v := 18) hC dX13_function_93 rfl ?_
  obtain ⟨r35, e36, h⟩ := hx_bind h
  refine hs_callV0 hC 14 [_] _ dX13_function_95 q1983 q1985 qs104 q327 q1986 np_X13 rfl OB_14 pd_X13_end (Nat.le_of_ble_eq_true rfl) hd1 (okX13_end l E A (d - 1)  (by omega)  e36 am33) rfl ?_
  obtain ⟨r39, e40, h⟩ := hx_bind h
  refine hs_callV hC 13 [_, _, _, _] _ dX13_function_98 q1987 q1988 q1989 q326 q1990 np_X12 rfl OB_13 pd_X12_branch (Nat.le_of_ble_eq_true rfl) hd1 (okX12_branch l E A (d - 1)  (by omega)  e40 am33) (hc_rb rfl) rfl (fun am41 ha42 => ?_)
  refine hr_aload_n hC dX13_function_101 rfl ?_
  refine hr_iload_n hC dX13_function_102 rfl ?_
  obtain ⟨r43, e44, h⟩ := hx_bind h
  refine hs_callV hC 14 [_] _ dX13_function_103 q2003 q2005 qs105 q327 q2006 np_X13 rfl OB_14 pd_X13_begin (Nat.le_of_ble_eq_true rfl) hd1 (okX13_begin l E A (d - 1) n (by omega)  e44 am41) (hc_rb rfl) rfl (fun am45 ha46 => ?_)
  refine hr_istore hC dX13_function_106 (by decide) ?_
  refine hr_aload_n hC dX13_function_108 rfl ?_
  refine hr_gO 6 hC F14_0 rfl dX13_function_109 q795 ?_
  refine hr_iload_n hC dX13_function_112 rfl ?_
  obtain ⟨r47, e48, h⟩ := hx_bind h
  refine hs_callV0 hC 6 [_] _ dX13_function_113 q2048 q1576 q1577 q320 q1578 np_X6 rfl OB_6 pd_X6_first (Nat.le_of_ble_eq_true rfl) hd1 (okX6_first l E A (d - 1)  (by omega)  e48 am45) rfl ?_
  refine hr_istore hC dX13_function_116 (by decide) ?_
  obtain ⟨r61, e62, h⟩ := hx_bind h
  refine hr_sub _ rfl (ll_X13_function_118 n k0 hD hem hC n _ _ _ _ _ am45 e62 ?_)
  refine hr_aload_n hC dX13_function_145 rfl ?_
  refine hr_iload hC dX13_function_146 rfl ?_
  obtain ⟨r66, e67, h⟩ := hx_bind h
  refine hs_callV hC 14 [_] _ dX13_function_148 q2069 q2071 qs107 q327 q2072 np_X13 rfl OB_14 pd_X13_statements (Nat.le_of_ble_eq_true rfl) hd1 (okX13_statements l E A (d - 1) n k0 (by omega)  e67 am45) (hc_rb rfl) rfl (fun am68 ha69 => ?_)
  refine hr_aload_n hC dX13_function_151 rfl ?_
  refine hr_gO 13 hC F14_5 rfl dX13_function_152 q800 ?_
  refine hr_bipush (v := 10) hC dX13_function_155 rfl ?_
  refine hr_iconst (v := 0) hC dX13_function_157 rfl ?_
  obtain ⟨r70, e71, h⟩ := hx_bind h
  refine hs_callV hC 13 [_, _] _ dX13_function_158 q2007 q2008 q2009 q326 q2010 np_X12 rfl OB_13 pd_X12_move (Nat.le_of_ble_eq_true rfl) hd1 (okX12_move l E A (d - 1)  (by omega)  e71 am68) (hc_rb rfl) rfl (fun am72 ha73 => ?_)
  refine hr_aload_n hC dX13_function_161 rfl ?_
  refine hr_gO 13 hC F14_5 rfl dX13_function_162 q800 ?_
  refine hr_aload_n hC dX13_function_165 rfl ?_
  refine hr_gI hC F14_12 dX13_function_166 q807 ?_
  obtain ⟨r74, e75, h⟩ := hx_bind h
  refine hs_callV0 hC 13 [_] _ dX13_function_169 q1927 q1928 q1929 q326 q1930 np_X12 rfl OB_13 pd_X12_here (Nat.le_of_ble_eq_true rfl) hd1 (okX12_here l E A (d - 1)  (by omega)  e75 am72) rfl ?_
  refine hr_aload_n hC dX13_function_172 rfl ?_
  refine hr_gO 13 hC F14_5 rfl dX13_function_173 q800 ?_
  refine hr_iload hC dX13_function_176 rfl ?_
  refine hr_bipush (v := 6) hC dX13_function_178 rfl ?_
  refine hr_bipush (v := (-4)) hC dX13_function_180 rfl ?_
  refine hr_aload_n hC dX13_function_182 rfl ?_
  refine hr_gO 16 hC F14_7 rfl dX13_function_183 q802 ?_
  obtain ⟨r78, e79, h⟩ := hx_bind h
  refine hs_callV0 hC 16 [] _ dX13_function_186 q2035 q2036 q2037 q329 q2038 np_X15 rfl OB_16 pd_X15_words (Nat.le_of_ble_eq_true rfl) hd1 (okX15_words l E A (d - 1)  (by omega)  e79 am72) rfl ?_
  refine hr_aload_n hC dX13_function_189 rfl ?_
  refine hr_gI hC F14_11 dX13_function_190 q806 ?_
  refine hr_iadd hC dX13_function_193 ?_
  refine hr_imul hC dX13_function_194 ?_
  obtain ⟨r82, e83, h⟩ := hx_bind h
  refine hs_callV hC 13 [_, _, _] _ dX13_function_195 q2321 q2322 q2323 q326 q2324 np_X12 rfl OB_13 pd_X12_fill (Nat.le_of_ble_eq_true rfl) hd1 (okX12_fill l E A (d - 1)  (by omega)  e83 am72) (hc_rb rfl) rfl (fun am84 ha85 => ?_)
  refine hr_aload_n hC dX13_function_198 rfl ?_
  refine hr_iload_n hC dX13_function_199 rfl ?_
  obtain ⟨r86, e87, h⟩ := hx_bind h
  refine hs_callV hC 14 [_] _ dX13_function_200 q2325 q2327 qs153 q327 q2328 np_X13 rfl OB_14 pd_X13_finish (Nat.le_of_ble_eq_true rfl) hd1 (okX13_finish l E A (d - 1) n (by omega)  e87 am84) (hc_rb rfl) rfl (fun am88 ha89 => ?_)
  obtain rfl := Option.some.inj h
  exact hr_vret hC dX13_function_203
def lp_X13_compile_32 (n : Nat) (k0 : Nat) : Nat → Int32 → Int32 → hc_St → Option (hc_St)
  | 0, _, _, _ => none
  | m + 1, y1, y2, σ => Option.bind (fm_X8_count  σ) fun r20 => if r20 ≤ y2 then (some (σ)) else (Option.bind (fm_X12_label  σ) fun r26 => hk (inb y2 (gL r26.2 14 8)) <| hl (pC r26.2 14 8 y2 r26.1) fun σ31 => lp_X13_compile_32 n k0 m y1 ((y2 + 1)) σ31)
def lp_X13_compile_64 (n : Nat) (k0 : Nat) : Nat → Int32 → Int32 → hc_St → Option (hc_St)
  | 0, _, _, _ => none
  | m + 1, y1, y2, σ => if 4 ≤ y2 then (some (σ)) else (Option.bind (fm_X12_label  σ) fun r39 => hk (inb y2 (gL r39.2 14 10)) <| hl (pC r39.2 14 10 y2 r39.1) fun σ44 => lp_X13_compile_64 n k0 m y1 ((y2 + 1)) σ44)
def lp_X13_compile_134 (n : Nat) (k0 : Nat) : Nat → Int32 → hc_St → Option (hc_St)
  | 0, _, _ => none
  | m + 1, y2, σ => if 4 ≤ y2 then (some (σ)) else (hk (inb y2 (gL σ 14 10)) <| Option.bind (fm_X12_here ((gC σ 14 10 y2)) σ) fun r70 => Option.bind (fm_X12_set 17 ((16 + y2)) r70) fun r74 => Option.bind (fm_X12_call  r74) fun r78 => lp_X13_compile_134 n k0 m ((y2 + 1)) r78)
def lp_X13_compile_180 (n : Nat) (k0 : Nat) : Nat → Int32 → hc_St → Option (hc_St)
  | 0, _, _ => none
  | m + 1, y2, σ => Option.bind (fm_X8_count  σ) fun r87 => if r87 ≤ y2 then (some (σ)) else (Option.bind (fm_X8_node y2 σ) fun r93 => Option.bind (fm_X13_function n k0 y2 r93 σ) fun r97 => lp_X13_compile_180 n k0 m ((y2 + 1)) r97)
/-- HomeCompiler$Generator.compile(I)V -/
def fm_X13_compile (n : Nat) (k0 : Nat) (x1 : Int32) (σ : hc_St) : Option hc_St := Option.bind (fm_X8_count  σ) fun r1 => Option.bind (α := hc_St) (if r1 ≤ (nI (gL σ 14 8)) then (some (σ)) else (Option.bind (fm_X8_count  σ) fun r11 => hk (hna ((2 * r11)) σ) <| hl (pU σ 1 ((2 * r11)).toNatClampNeg) fun σ17 => hl (pA σ17 14 8 (((2 * r11)).toNatClampNeg) (fun _ => 0)) fun σ18 => some (σ18))) fun r7 => Option.bind (lp_X13_compile_32 n k0 n x1 0 r7) fun r32 => Option.bind (lp_X13_compile_64 n k0 n x1 0 r32) fun r45 => Option.bind (fm_X12_store 2 2 10 ((-4)) r45) fun r50 => hk (inb x1 (gL r50 14 8)) <| Option.bind (fm_X12_jump 1 ((gC r50 14 8 x1)) r50) fun r55 => Option.bind (fm_X12_set 17 0 r55) fun r59 => Option.bind (fm_X12_call  r59) fun r63 => Option.bind (lp_X13_compile_134 n k0 n 0 r63) fun r82 => Option.bind (lp_X13_compile_180 n k0 n 0 r82) fun r101 => some r101
set_option maxRecDepth 20000 in
set_option maxHeartbeats 4000000 in
theorem ll_X13_compile_32 {l : Launch} {E : hc_E} {A : Nat → Prop} {am : Nat → Nat → Nat} {d : Nat} {X : hc_X} (n : Nat) (k0 : Nat) (hD : 3 * k0 + 17 ≤ d) (hem : X.2.2.2.2.2.2.2.2.2.1.exceptionTable.isEmpty = true) {oc : hc_Oc} {σe : hc_St} (hC : hc_C hc_V0 E cX13_compile 3 RX13 none d oc σe (l, A, am, [13, 14, 16]) X) : ∀ (m : Nat) (σ : hc_St) (y1 : Int32) (y2 : Int32) (rl : hc_St), lp_X13_compile_32 n k0 m y1 y2 σ = some rl → (∀ am1, hc_At hc_V0 E 3 X 62 [(0, .ref (E.2.1 14)), (1, .int y1)] [] rl am1 []) → ∀ am1, hc_At hc_V0 E 3 X 32 [(0, .ref (E.2.1 14)), (1, .int y1), (2, .int y2)] [] σ am1 [] := by
  have hd1 : 1 ≤ d := by omega
  have hd8 : 9 ≤ d := by omega
  have hd12 : 12 ≤ d := by omega
  intro m
  induction m with
  | zero =>
    intro σ y1 y2 rl h
    cases h
  | succ m ih =>
    intro σ y1 y2 rl h JX am1
    rw [lp_X13_compile_32] at h
    refine hr_iload_n hC dX13_compile_32 rfl ?_
    refine hr_aload_n hC dX13_compile_33 rfl ?_
    refine hr_gO 8 hC F14_1 rfl dX13_compile_34 q796 ?_
    obtain ⟨r20, e21, h⟩ := hx_bind h
    refine hs_callV0 hC 8 [] _ dX13_compile_37 q1884 q1885 q1886 q322 q1887 np_X8 rfl OB_8 pd_X8_count (Nat.le_of_ble_eq_true rfl) hd1 (okX8_count l E A (d - 1)  (by omega)  e21 am1) rfl ?_
    refine hr_icmp_ge (x := _) hC 62 dX13_compile_40 (by decide) (fun c25 => ?_) (fun c25 => ?_)
    · rw [if_pos c25] at h
      obtain rfl := Option.some.inj h
      exact hr_sub _ rfl (JX am1)
    · rw [if_neg c25] at h
      refine hr_aload_n hC dX13_compile_43 rfl ?_
      refine hr_gA hC F14_8 rfl dX13_compile_44 q803 ?_
      refine hr_iload_n hC dX13_compile_47 rfl ?_
      refine hr_aload_n hC dX13_compile_48 rfl ?_
      refine hr_gO 13 hC F14_5 rfl dX13_compile_49 q800 ?_
      obtain ⟨r26, e27, h⟩ := hx_bind h
      refine hs_callV hC 13 [] _ dX13_compile_52 q1888 q1889 q1890 q326 q1891 np_X12 rfl OB_13 pd_X12_label (Nat.le_of_ble_eq_true rfl) hd1 (okX12_label l E A (d - 1)  (by omega)  e27 am1) (hc_rb rfl) rfl (fun am28 ha29 => ?_)
      rw [show am1 14 8 = am28 14 8 from (ha29 14 8 (by decide)).symm]
      obtain ⟨c30, h⟩ := hk_ok h
      obtain ⟨σ31, hσ31, h⟩ := hl_ok h
      refine hs_iast hC A14_8 c30 dX13_compile_55 ?_
      rw [← hσ31]
      refine hr_iinc (v := y2 + 1) hC dX13_compile_56 rfl rfl (by decide) ?_
      refine hr_goto hC 32 dX13_compile_59 (by decide) ?_
      exact hr_sub _ rfl (ih _ _ _ _ h JX am28)
set_option maxRecDepth 20000 in
set_option maxHeartbeats 4000000 in
theorem ll_X13_compile_64 {l : Launch} {E : hc_E} {A : Nat → Prop} {am : Nat → Nat → Nat} {d : Nat} {X : hc_X} (n : Nat) (k0 : Nat) (hD : 3 * k0 + 17 ≤ d) (hem : X.2.2.2.2.2.2.2.2.2.1.exceptionTable.isEmpty = true) {oc : hc_Oc} {σe : hc_St} (hC : hc_C hc_V0 E cX13_compile 3 RX13 none d oc σe (l, A, am, [13, 14, 16]) X) : ∀ (m : Nat) (σ : hc_St) (y1 : Int32) (y2 : Int32) (rl : hc_St), lp_X13_compile_64 n k0 m y1 y2 σ = some rl → (∀ am1, hc_At hc_V0 E 3 X 88 [(0, .ref (E.2.1 14)), (1, .int y1)] [] rl am1 []) → ∀ am1, hc_At hc_V0 E 3 X 64 [(0, .ref (E.2.1 14)), (1, .int y1), (2, .int y2)] [] σ am1 [] := by
  have hd1 : 1 ≤ d := by omega
  have hd8 : 9 ≤ d := by omega
  have hd12 : 12 ≤ d := by omega
  intro m
  induction m with
  | zero =>
    intro σ y1 y2 rl h
    cases h
  | succ m ih =>
    intro σ y1 y2 rl h JX am1
    rw [lp_X13_compile_64] at h
    refine hr_iload_n hC dX13_compile_64 rfl ?_
    refine hr_iconst (v := 4) hC dX13_compile_65 rfl ?_
    refine hr_icmp_ge (x := _) hC 88 dX13_compile_66 (by decide) (fun c38 => ?_) (fun c38 => ?_)
    · rw [if_pos c38] at h
      obtain rfl := Option.some.inj h
      exact hr_sub _ rfl (JX am1)
    · rw [if_neg c38] at h
      refine hr_aload_n hC dX13_compile_69 rfl ?_
      refine hr_gA hC F14_10 rfl dX13_compile_70 q805 ?_
      refine hr_iload_n hC dX13_compile_73 rfl ?_
      refine hr_aload_n hC dX13_compile_74 rfl ?_
      refine hr_gO 13 hC F14_5 rfl dX13_compile_75 q800 ?_
      obtain ⟨r39, e40, h⟩ := hx_bind h
      refine hs_callV hC 13 [] _ dX13_compile_78 q1888 q1889 q1890 q326 q1891 np_X12 rfl OB_13 pd_X12_label (Nat.le_of_ble_eq_true rfl) hd1 (okX12_label l E A (d - 1)  (by omega)  e40 am1) (hc_rb rfl) rfl (fun am41 ha42 => ?_)
      rw [show am1 14 10 = am41 14 10 from (ha42 14 10 (by decide)).symm]
      obtain ⟨c43, h⟩ := hk_ok h
      obtain ⟨σ44, hσ44, h⟩ := hl_ok h
      refine hs_iast hC A14_10 c43 dX13_compile_81 ?_
      rw [← hσ44]
      refine hr_iinc (v := y2 + 1) hC dX13_compile_82 rfl rfl (by decide) ?_
      refine hr_goto hC 64 dX13_compile_85 (by decide) ?_
      exact hr_sub _ rfl (ih _ _ _ _ h JX am41)
set_option maxRecDepth 20000 in
set_option maxHeartbeats 4000000 in
theorem ll_X13_compile_134 {l : Launch} {E : hc_E} {A : Nat → Prop} {am : Nat → Nat → Nat} {d : Nat} {X : hc_X} (n : Nat) (k0 : Nat) (hD : 3 * k0 + 17 ≤ d) (hem : X.2.2.2.2.2.2.2.2.2.1.exceptionTable.isEmpty = true) {oc : hc_Oc} {σe : hc_St} (hC : hc_C hc_V0 E cX13_compile 3 RX13 none d oc σe (l, A, am, [13, 14, 16]) X) : ∀ (m : Nat) (σ : hc_St) (y2 : Int32) (rl : hc_St), lp_X13_compile_134 n k0 m y2 σ = some rl → (∀ am1, hc_At hc_V0 E 3 X 178 [(0, .ref (E.2.1 14))] [] rl am1 []) → ∀ am1, hc_At hc_V0 E 3 X 134 [(0, .ref (E.2.1 14)), (2, .int y2)] [] σ am1 [] := by
  have hd1 : 1 ≤ d := by omega
  have hd8 : 9 ≤ d := by omega
  have hd12 : 12 ≤ d := by omega
  intro m
  induction m with
  | zero =>
    intro σ y2 rl h
    cases h
  | succ m ih =>
    intro σ y2 rl h JX am1
    rw [lp_X13_compile_134] at h
    refine hr_iload_n hC dX13_compile_134 rfl ?_
    refine hr_iconst (v := 4) hC dX13_compile_135 rfl ?_
    refine hr_icmp_ge (x := _) hC 178 dX13_compile_136 (by decide) (fun c68 => ?_) (fun c68 => ?_)
    · rw [if_pos c68] at h
      obtain rfl := Option.some.inj h
      exact hr_sub _ rfl (JX am1)
    · rw [if_neg c68] at h
      refine hr_aload_n hC dX13_compile_139 rfl ?_
      refine hr_gO 13 hC F14_5 rfl dX13_compile_140 q800 ?_
      refine hr_aload_n hC dX13_compile_143 rfl ?_
      refine hr_gA hC F14_10 rfl dX13_compile_144 q805 ?_
      refine hr_iload_n hC dX13_compile_147 rfl ?_
      obtain ⟨c69, h⟩ := hk_ok h
      refine hs_iald hC A14_10 c69 dX13_compile_148 ?_
      obtain ⟨r70, e71, h⟩ := hx_bind h
      refine hs_callV0 hC 13 [_] _ dX13_compile_149 q1927 q1928 q1929 q326 q1930 np_X12 rfl OB_13 pd_X12_here (Nat.le_of_ble_eq_true rfl) hd1 (okX12_here l E A (d - 1)  (by omega)  e71 am1) rfl ?_
      refine hr_aload_n hC dX13_compile_152 rfl ?_
      refine hr_gO 13 hC F14_5 rfl dX13_compile_153 q800 ?_
      refine hr_bipush (v := 17) hC dX13_compile_156 rfl ?_
      refine hr_bipush (v := 16) hC dX13_compile_158 rfl ?_
      refine hr_iload_n hC dX13_compile_160 rfl ?_
      refine hr_iadd hC dX13_compile_161 ?_
      obtain ⟨r74, e75, h⟩ := hx_bind h
      refine hs_callV hC 13 [_, _] _ dX13_compile_162 q1908 q1909 q1910 q326 q1911 np_X12 rfl OB_13 pd_X12_set (Nat.le_of_ble_eq_true rfl) hd1 (okX12_set l E A (d - 1)  (by omega)  e75 am1) (hc_rb rfl) rfl (fun am76 ha77 => ?_)
      refine hr_aload_n hC dX13_compile_165 rfl ?_
      refine hr_gO 13 hC F14_5 rfl dX13_compile_166 q800 ?_
      obtain ⟨r78, e79, h⟩ := hx_bind h
      refine hs_callV hC 13 [] _ dX13_compile_169 q1923 q1924 q1925 q326 q1926 np_X12 rfl OB_13 pd_X12_call (Nat.le_of_ble_eq_true rfl) hd1 (okX12_call l E A (d - 1)  (by omega)  e79 am76) (hc_rb rfl) rfl (fun am80 ha81 => ?_)
      refine hr_iinc (v := y2 + 1) hC dX13_compile_172 rfl rfl (by decide) ?_
      refine hr_goto hC 134 dX13_compile_175 (by decide) ?_
      exact hr_sub _ rfl (ih _ _ _ h JX am80)
set_option maxRecDepth 20000 in
set_option maxHeartbeats 4000000 in
theorem ll_X13_compile_180 {l : Launch} {E : hc_E} {A : Nat → Prop} {am : Nat → Nat → Nat} {d : Nat} {X : hc_X} (n : Nat) (k0 : Nat) (hD : 3 * k0 + 17 ≤ d) (hem : X.2.2.2.2.2.2.2.2.2.1.exceptionTable.isEmpty = true) {oc : hc_Oc} {σe : hc_St} (hC : hc_C hc_V0 E cX13_compile 3 RX13 none d oc σe (l, A, am, [13, 14, 16]) X) : ∀ (m : Nat) (σ : hc_St) (y2 : Int32) (rl : hc_St), lp_X13_compile_180 n k0 m y2 σ = some rl → (∀ am1, hc_At hc_V0 E 3 X 210 [] [] rl am1 []) → ∀ am1, hc_At hc_V0 E 3 X 180 [(0, .ref (E.2.1 14)), (2, .int y2)] [] σ am1 [] := by
  have hd1 : 1 ≤ d := by omega
  have hd8 : 9 ≤ d := by omega
  have hd12 : 12 ≤ d := by omega
  intro m
  induction m with
  | zero =>
    intro σ y2 rl h
    cases h
  | succ m ih =>
    intro σ y2 rl h JX am1
    rw [lp_X13_compile_180] at h
    refine hr_iload_n hC dX13_compile_180 rfl ?_
    refine hr_aload_n hC dX13_compile_181 rfl ?_
    refine hr_gO 8 hC F14_1 rfl dX13_compile_182 q796 ?_
    obtain ⟨r87, e88, h⟩ := hx_bind h
    refine hs_callV0 hC 8 [] _ dX13_compile_185 q1884 q1885 q1886 q322 q1887 np_X8 rfl OB_8 pd_X8_count (Nat.le_of_ble_eq_true rfl) hd1 (okX8_count l E A (d - 1)  (by omega)  e88 am1) rfl ?_
    refine hr_icmp_ge (x := _) hC 210 dX13_compile_188 (by decide) (fun c92 => ?_) (fun c92 => ?_)
    · rw [if_pos c92] at h
      obtain rfl := Option.some.inj h
      exact hr_sub _ rfl (JX am1)
    · rw [if_neg c92] at h
      refine hr_aload_n hC dX13_compile_191 rfl ?_
      refine hr_iload_n hC dX13_compile_192 rfl ?_
      refine hr_aload_n hC dX13_compile_193 rfl ?_
      refine hr_gO 8 hC F14_1 rfl dX13_compile_194 q796 ?_
      refine hr_iload_n hC dX13_compile_197 rfl ?_
      obtain ⟨r93, e94, h⟩ := hx_bind h
      refine hs_callV0 hC 8 [_] _ dX13_compile_198 q1931 q1932 q1933 q322 q1934 np_X8 rfl OB_8 pd_X8_node (Nat.le_of_ble_eq_true rfl) hd1 (okX8_node l E A (d - 1)  (by omega)  e94 am1) rfl ?_
      obtain ⟨r97, e98, h⟩ := hx_bind h
      refine hs_callV hC 14 [_, _] _ dX13_compile_201 q1935 q1937 qs97 q327 q1938 np_X13 rfl OB_14 pd_X13_function (Nat.le_of_ble_eq_true rfl) hd1 (okX13_function l E A (d - 1) n k0 (by omega)  e98 am1) (hc_rb rfl) rfl (fun am99 ha100 => ?_)
      refine hr_iinc (v := y2 + 1) hC dX13_compile_204 rfl rfl (by decide) ?_
      refine hr_goto hC 180 dX13_compile_207 (by decide) ?_
      exact hr_sub _ rfl (ih _ _ _ h JX am99)
set_option maxRecDepth 20000 in
set_option maxHeartbeats 4000000 in
theorem okX13_compile (l : Launch) (E : hc_E) (A : Nat → Prop) (d : Nat) (n : Nat) (k0 : Nat) (hD : 3 * k0 + 17 ≤ d) {x1 : Int32} {σ : hc_St} {r : hc_St} (h : fm_X13_compile n k0 x1 σ = some r) (am : Nat → Nat → Nat) : hc_M l hc_V0 yX13_compile (ws_ yX13_compile cX13_compile 3 none) d E A [.ref (E.2.1 14), .int x1] am [13, 14, 16] σ (.inl none) r := by
  have hd1 : 1 ≤ d := by omega
  have hd8 : 9 ≤ d := by omega
  have hd12 : 12 ≤ d := by omega
  refine hc_enter2 (own := RX13) [(0, .ref (E.2.1 14)), (1, .int x1)] pl_X13 rfl hc_V0_st hc_G0_nd rfl (Nat.le_of_ble_eq_true rfl) (fun X hC hem => ?_)
  unfold fm_X13_compile at h
  refine hr_aload_n hC dX13_compile_0 rfl ?_
  refine hr_gA hC F14_8 rfl dX13_compile_1 q803 ?_
  refine hs_alen1 hC A14_8 dX13_compile_4 ?_
  refine hr_aload_n hC dX13_compile_5 rfl ?_
  refine hr_gO 8 hC F14_1 rfl dX13_compile_6 q796 ?_
  obtain ⟨r1, e2, h⟩ := hx_bind h
  refine hs_callV0 hC 8 [] _ dX13_compile_9 q1884 q1885 q1886 q322 q1887 np_X8 rfl OB_8 pd_X8_count (Nat.le_of_ble_eq_true rfl) hd1 (okX8_count l E A (d - 1)  (by omega)  e2 am) rfl ?_
  obtain ⟨r7, e8, h⟩ := hx_bind h
  have J9 : ∀ am19, hc_At hc_V0 E 3 X 30 [(0, .ref (E.2.1 14)), (1, .int x1)] [] r7 am19 [] := by
    intro am19
    refine hr_iconst (v := 0) hC dX13_compile_30 rfl ?_
    refine hr_istore_n hC dX13_compile_31 (by decide) ?_
    obtain ⟨r32, e33, h⟩ := hx_bind h
    refine hr_sub _ rfl (ll_X13_compile_32 n k0 hD hem hC n _ _ _ _ e33 (fun am36 => ?_) am19)
    refine hr_iconst (v := 0) hC dX13_compile_62 rfl ?_
    refine hr_istore_n hC dX13_compile_63 (by decide) ?_
    obtain ⟨r45, e46, h⟩ := hx_bind h
    refine hr_sub _ rfl (ll_X13_compile_64 n k0 hD hem hC n _ _ _ _ e46 (fun am49 => ?_) am36)
    refine hr_aload_n hC dX13_compile_88 rfl ?_
    refine hr_gO 13 hC F14_5 rfl dX13_compile_89 q800 ?_
    refine hr_iconst (v := 2) hC dX13_compile_92 rfl ?_
    refine hr_iconst (v := 2) hC dX13_compile_93 rfl ?_
    refine hr_bipush (v := 10) hC dX13_compile_94 rfl ?_
    refine hr_bipush (v := (-4)) hC dX13_compile_96 rfl ?_
    obtain ⟨r50, e51, h⟩ := hx_bind h
    refine hs_callV hC 13 [_, _, _, _] _ dX13_compile_98 q1896 q1897 q1898 q326 q1899 np_X12 rfl OB_13 pd_X12_store (Nat.le_of_ble_eq_true rfl) hd1 (okX12_store l E A (d - 1)  (by omega)  e51 am49) (hc_rb rfl) rfl (fun am52 ha53 => ?_)
    refine hr_aload_n hC dX13_compile_101 rfl ?_
    refine hr_gO 13 hC F14_5 rfl dX13_compile_102 q800 ?_
    refine hr_iconst (v := 1) hC dX13_compile_105 rfl ?_
    refine hr_aload_n hC dX13_compile_106 rfl ?_
    refine hr_gA hC F14_8 rfl dX13_compile_107 q803 ?_
    refine hr_iload_n hC dX13_compile_110 rfl ?_
    obtain ⟨c54, h⟩ := hk_ok h
    refine hs_iald hC A14_8 c54 dX13_compile_111 ?_
    obtain ⟨r55, e56, h⟩ := hx_bind h
    refine hs_callV hC 13 [_, _] _ dX13_compile_112 q1904 q1905 q1906 q326 q1907 np_X12 rfl OB_13 pd_X12_jump (Nat.le_of_ble_eq_true rfl) hd1 (okX12_jump l E A (d - 1)  (by omega)  e56 am52) (hc_rb rfl) rfl (fun am57 ha58 => ?_)
    refine hr_aload_n hC dX13_compile_115 rfl ?_
    refine hr_gO 13 hC F14_5 rfl dX13_compile_116 q800 ?_
    refine hr_bipush (v := 17) hC dX13_compile_119 rfl ?_
    refine hr_iconst (v := 0) hC dX13_compile_121 rfl ?_
    obtain ⟨r59, e60, h⟩ := hx_bind h
    refine hs_callV hC 13 [_, _] _ dX13_compile_122 q1908 q1909 q1910 q326 q1911 np_X12 rfl OB_13 pd_X12_set (Nat.le_of_ble_eq_true rfl) hd1 (okX12_set l E A (d - 1)  (by omega)  e60 am57) (hc_rb rfl) rfl (fun am61 ha62 => ?_)
    refine hr_aload_n hC dX13_compile_125 rfl ?_
    refine hr_gO 13 hC F14_5 rfl dX13_compile_126 q800 ?_
    obtain ⟨r63, e64, h⟩ := hx_bind h
    refine hs_callV hC 13 [] _ dX13_compile_129 q1923 q1924 q1925 q326 q1926 np_X12 rfl OB_13 pd_X12_call (Nat.le_of_ble_eq_true rfl) hd1 (okX12_call l E A (d - 1)  (by omega)  e64 am61) (hc_rb rfl) rfl (fun am65 ha66 => ?_)
    refine hr_iconst (v := 0) hC dX13_compile_132 rfl ?_
    refine hr_istore_n hC dX13_compile_133 (by decide) ?_
    obtain ⟨r82, e83, h⟩ := hx_bind h
    refine hr_sub _ rfl (ll_X13_compile_134 n k0 hD hem hC n _ _ _ e83 (fun am86 => ?_) am65)
    refine hr_iconst (v := 0) hC dX13_compile_178 rfl ?_
    refine hr_istore_n hC dX13_compile_179 (by decide) ?_
    obtain ⟨r101, e102, h⟩ := hx_bind h
    refine hr_sub _ rfl (ll_X13_compile_180 n k0 hD hem hC n _ _ _ e102 (fun am105 => ?_) am86)
    obtain rfl := Option.some.inj h
    exact hr_vret hC dX13_compile_210
  clear h
  have h := e8
  refine hr_icmp_ge (x := _) hC 30 dX13_compile_12 (by decide) (fun c6 => ?_) (fun c6 => ?_)
  · rw [if_pos c6] at h
    obtain rfl := Option.some.inj h
    exact hr_sub _ rfl (J9 am)
  · rw [if_neg c6] at h
    refine hr_aload_n hC dX13_compile_15 rfl ?_
    refine hr_iconst (v := 2) hC dX13_compile_16 rfl ?_
    refine hr_aload_n hC dX13_compile_17 rfl ?_
    refine hr_gO 8 hC F14_1 rfl dX13_compile_18 q796 ?_
    obtain ⟨r11, e12, h⟩ := hx_bind h
    refine hs_callV0 hC 8 [] _ dX13_compile_21 q1884 q1885 q1886 q322 q1887 np_X8 rfl OB_8 pd_X8_count (Nat.le_of_ble_eq_true rfl) hd1 (okX8_count l E A (d - 1)  (by omega)  e12 am) rfl ?_
    refine hr_imul hC dX13_compile_24 ?_
    obtain ⟨c15, h⟩ := hk_ok h
    obtain ⟨σ17, hσ17, h⟩ := hl_ok h
    refine hs_newI hC dX13_compile_25 c15 (fun q16 => ?_)
    rw [← hσ17]
    obtain ⟨σ18, hσ18, h⟩ := hl_ok h
    refine hr_pA hC F14_8 rfl A14_8 PX13_8 (hc_mm rfl) dX13_compile_27 q803 ?_
    rw [← hσ18]
    obtain rfl := Option.some.inj h
    exact hr_sub _ rfl (J9 ((hc_up2 am 14 8 q16)))
def lp_X12_finish_2 (n : Nat) : Nat → Int32 → hc_St → Option (hc_St)
  | 0, _, _ => none
  | m + 1, y1, σ => if (gI σ 13 6) ≤ y1 then (some (σ)) else (hk (inb y1 (gL σ 13 5)) <| hk (inb ((gC σ 13 5 y1)) (gL σ 13 2)) <| hk (inb y1 (gL σ 13 4)) <| hk (inb y1 (gL σ 13 4)) <| hk (inb ((gC σ 13 4 y1)) (gL σ 13 0)) <| hk (inb ((gC σ 13 4 y1)) (gL σ 13 0)) <| hl (pC σ 13 0 ((gC σ 13 4 y1)) ((((gC σ 13 0 ((gC σ 13 4 y1)))) ||| ((((((((jshl ((((jshr ((4 * ((((gC σ 13 2 ((gC σ 13 5 y1)))) - ((gC σ 13 4 y1)))))) 20)) &&& 1)) 31)) ||| ((jshl ((((jshr ((4 * ((((gC σ 13 2 ((gC σ 13 5 y1)))) - ((gC σ 13 4 y1)))))) 1)) &&& 1023)) 21)))) ||| ((jshl ((((jshr ((4 * ((((gC σ 13 2 ((gC σ 13 5 y1)))) - ((gC σ 13 4 y1)))))) 11)) &&& 1)) 20)))) ||| ((jshl ((((jshr ((4 * ((((gC σ 13 2 ((gC σ 13 5 y1)))) - ((gC σ 13 4 y1)))))) 12)) &&& 255)) 12))))))) fun σ9 => lp_X12_finish_2 n m ((y1 + 1)) σ9)
/-- HomeCompiler$Emitter.finish()V -/
def fm_X12_finish (n : Nat)  (σ : hc_St) : Option hc_St := Option.bind (lp_X12_finish_2 n n 0 σ) fun r10 => some r10
set_option maxRecDepth 20000 in
set_option maxHeartbeats 4000000 in
theorem ll_X12_finish_2 {l : Launch} {E : hc_E} {A : Nat → Prop} {am : Nat → Nat → Nat} {d : Nat} {X : hc_X} (n : Nat) (hD : 1 ≤ d) (hem : X.2.2.2.2.2.2.2.2.2.1.exceptionTable.isEmpty = true) {oc : hc_Oc} {σe : hc_St} (hC : hc_C hc_V0 E cX12_finish 3 RX12 none d oc σe (l, A, am, []) X) : ∀ (m : Nat) (σ : hc_St) (y1 : Int32) (rl : hc_St) (am1 : Nat → Nat → Nat), lp_X12_finish_2 n m y1 σ = some rl → (hc_At hc_V0 E 3 X 93 [] [] rl am1 []) → hc_At hc_V0 E 3 X 2 [(0, .ref (E.2.1 13)), (1, .int y1)] [] σ am1 [] := by
  have hd1 : 1 ≤ d := by omega
  intro m
  induction m with
  | zero =>
    intro σ y1 rl am1 h
    cases h
  | succ m ih =>
    intro σ y1 rl am1 h JX
    rw [lp_X12_finish_2] at h
    refine hr_iload_n hC dX12_finish_2 rfl ?_
    refine hr_aload_n hC dX12_finish_3 rfl ?_
    refine hr_gI hC F13_6 dX12_finish_4 q722 ?_
    refine hr_icmp_ge (x := _) hC 93 dX12_finish_7 (by decide) (fun c2 => ?_) (fun c2 => ?_)
    · rw [if_pos c2] at h
      obtain rfl := Option.some.inj h
      exact hr_sub _ rfl (JX)
    · rw [if_neg c2] at h
      refine hr_iconst (v := 4) hC dX12_finish_10 rfl ?_
      refine hr_aload_n hC dX12_finish_11 rfl ?_
      refine hr_gA hC F13_2 rfl dX12_finish_12 q718 ?_
      refine hr_aload_n hC dX12_finish_15 rfl ?_
      refine hr_gA hC F13_5 rfl dX12_finish_16 q721 ?_
      refine hr_iload_n hC dX12_finish_19 rfl ?_
      obtain ⟨c3, h⟩ := hk_ok h
      refine hs_iald hC A13_5 c3 dX12_finish_20 ?_
      obtain ⟨c4, h⟩ := hk_ok h
      refine hs_iald hC A13_2 c4 dX12_finish_21 ?_
      refine hr_aload_n hC dX12_finish_22 rfl ?_
      refine hr_gA hC F13_4 rfl dX12_finish_23 q720 ?_
      refine hr_iload_n hC dX12_finish_26 rfl ?_
      obtain ⟨c5, h⟩ := hk_ok h
      refine hs_iald hC A13_4 c5 dX12_finish_27 ?_
      refine hr_isub hC dX12_finish_28 ?_
      refine hr_imul hC dX12_finish_29 ?_
      refine hr_istore_n hC dX12_finish_30 (by decide) ?_
      refine hr_aload_n hC dX12_finish_31 rfl ?_
      refine hr_gA hC F13_0 rfl dX12_finish_32 q716 ?_
      refine hr_aload_n hC dX12_finish_35 rfl ?_
      refine hr_gA hC F13_4 rfl dX12_finish_36 q720 ?_
      refine hr_iload_n hC dX12_finish_39 rfl ?_
      obtain ⟨c6, h⟩ := hk_ok h
      refine hs_iald hC A13_4 c6 dX12_finish_40 ?_
      refine hr_dup2 hC dX12_finish_41 rfl rfl ?_
      obtain ⟨c7, h⟩ := hk_ok h
      refine hs_iald hC A13_0 c7 dX12_finish_42 ?_
      refine hr_iload_n hC dX12_finish_43 rfl ?_
      refine hr_bipush (v := 20) hC dX12_finish_44 rfl ?_
      refine hr_ishr hC dX12_finish_46 ?_
      refine hr_iconst (v := 1) hC dX12_finish_47 rfl ?_
      refine hr_iand hC dX12_finish_48 ?_
      refine hr_bipush (v := 31) hC dX12_finish_49 rfl ?_
      refine hr_ishl hC dX12_finish_51 ?_
      refine hr_iload_n hC dX12_finish_52 rfl ?_
      refine hr_iconst (v := 1) hC dX12_finish_53 rfl ?_
      refine hr_ishr hC dX12_finish_54 ?_
      refine hr_sipush (v := 1023) hC dX12_finish_55 rfl ?_
      refine hr_iand hC dX12_finish_58 ?_
      refine hr_bipush (v := 21) hC dX12_finish_59 rfl ?_
      refine hr_ishl hC dX12_finish_61 ?_
      refine hr_ior hC dX12_finish_62 ?_
      refine hr_iload_n hC dX12_finish_63 rfl ?_
      refine hr_bipush (v := 11) hC dX12_finish_64 rfl ?_
      refine hr_ishr hC dX12_finish_66 ?_
      refine hr_iconst (v := 1) hC dX12_finish_67 rfl ?_
      refine hr_iand hC dX12_finish_68 ?_
      refine hr_bipush (v := 20) hC dX12_finish_69 rfl ?_
      refine hr_ishl hC dX12_finish_71 ?_
      refine hr_ior hC dX12_finish_72 ?_
      refine hr_iload_n hC dX12_finish_73 rfl ?_
      refine hr_bipush (v := 12) hC dX12_finish_74 rfl ?_
      refine hr_ishr hC dX12_finish_76 ?_
      refine hr_sipush (v := 255) hC dX12_finish_77 rfl ?_
      refine hr_iand hC dX12_finish_80 ?_
      refine hr_bipush (v := 12) hC dX12_finish_81 rfl ?_
      refine hr_ishl hC dX12_finish_83 ?_
      refine hr_ior hC dX12_finish_84 ?_
      refine hr_ior hC dX12_finish_85 ?_
      obtain ⟨c8, h⟩ := hk_ok h
      obtain ⟨σ9, hσ9, h⟩ := hl_ok h
      refine hs_iast hC A13_0 c8 dX12_finish_86 ?_
      rw [← hσ9]
      refine hr_iinc (v := y1 + 1) hC dX12_finish_87 rfl rfl (by decide) ?_
      refine hr_goto hC 2 dX12_finish_90 (by decide) ?_
      exact hr_sub _ rfl (ih _ _ _ am1 h JX)
set_option maxRecDepth 20000 in
set_option maxHeartbeats 4000000 in
theorem okX12_finish (l : Launch) (E : hc_E) (A : Nat → Prop) (d : Nat) (n : Nat) (hD : 1 ≤ d)  {σ : hc_St} {r : hc_St} (h : fm_X12_finish n  σ = some r) (am : Nat → Nat → Nat) : hc_M l hc_V0 yX12_finish (ws_ yX12_finish cX12_finish 3 none) d E A [.ref (E.2.1 13)] am [] σ (.inl none) r := by
  have hd1 : 1 ≤ d := by omega
  refine hc_enter2 (own := RX12) [(0, .ref (E.2.1 13))] pl_X12 rfl hc_V0_st hc_G0_nd rfl (Nat.le_of_ble_eq_true rfl) (fun X hC hem => ?_)
  unfold fm_X12_finish at h
  refine hr_iconst (v := 0) hC dX12_finish_0 rfl ?_
  refine hr_istore_n hC dX12_finish_1 (by decide) ?_
  obtain ⟨r10, e11, h⟩ := hx_bind h
  refine hr_sub _ rfl (ll_X12_finish_2 n hD hem hC n _ _ _ am e11 ?_)
  obtain rfl := Option.some.inj h
  exact hr_vret hC dX12_finish_93
/-- HomeCompiler$Emitter.count()I -/
def fm_X12_count   (σ : hc_St) : Option Int32 := some ((gI σ 13 1))
set_option maxRecDepth 20000 in
set_option maxHeartbeats 4000000 in
theorem okX12_count (l : Launch) (E : hc_E) (A : Nat → Prop) (d : Nat)  (hD : 1 ≤ d)  {σ : hc_St} {r : Int32} (h : fm_X12_count   σ = some r) (am : Nat → Nat → Nat) : hc_M l hc_V0 yX12_count (ws_ yX12_count cX12_count 1 (some .int)) d E A [.ref (E.2.1 13)] am [] σ (.inl (some (.int r))) σ := by
  have hd1 : 1 ≤ d := by omega
  refine hc_enter2 (own := RX12) [(0, .ref (E.2.1 13))] pl_X12 rfl hc_V0_st hc_G0_nd rfl (Nat.le_of_ble_eq_true rfl) (fun X hC hem => ?_)
  unfold fm_X12_count at h
  refine hr_aload_n hC dX12_count_0 rfl ?_
  refine hr_gI hC F13_1 dX12_count_1 q717 ?_
  obtain rfl := Option.some.inj h
  exact hr_iret hC dX12_count_4
/-- HomeCompiler$Emitter.word(I)I -/
def fm_X12_word  (x1 : Int32) (σ : hc_St) : Option Int32 := hk (inb x1 (gL σ 13 0)) <| some ((gC σ 13 0 x1))
set_option maxRecDepth 20000 in
set_option maxHeartbeats 4000000 in
theorem okX12_word (l : Launch) (E : hc_E) (A : Nat → Prop) (d : Nat)  (hD : 1 ≤ d) {x1 : Int32} {σ : hc_St} {r : Int32} (h : fm_X12_word  x1 σ = some r) (am : Nat → Nat → Nat) : hc_M l hc_V0 yX12_word (ws_ yX12_word cX12_word 2 (some .int)) d E A [.ref (E.2.1 13), .int x1] am [] σ (.inl (some (.int r))) σ := by
  have hd1 : 1 ≤ d := by omega
  refine hc_enter2 (own := RX12) [(0, .ref (E.2.1 13)), (1, .int x1)] pl_X12 rfl hc_V0_st hc_G0_nd rfl (Nat.le_of_ble_eq_true rfl) (fun X hC hem => ?_)
  unfold fm_X12_word at h
  refine hr_aload_n hC dX12_word_0 rfl ?_
  refine hr_gA hC F13_0 rfl dX12_word_1 q716 ?_
  refine hr_iload_n hC dX12_word_4 rfl ?_
  obtain ⟨c1, h⟩ := hk_ok h
  refine hs_iald hC A13_0 c1 dX12_word_5 ?_
  obtain rfl := Option.some.inj h
  exact hr_iret hC dX12_word_6
def lp_X1_compile_59 (n : Nat) (k0 : Nat) : Nat → Int32 → hc_St → Option (hc_St)
  | 0, _, _ => none
  | m + 1, y1, σ => Option.bind (fm_X12_count  σ) fun r31 => if r31 ≤ y1 then (some (σ)) else (Option.bind (fm_X12_word y1 σ) fun r37 => Option.bind (fm_X17_write ((((gI σ 0 13)) + ((4 * y1)))) r37 σ) fun r41 => lp_X1_compile_59 n k0 m ((y1 + 1)) r41)
/-- HomeCompiler.compile()V -/
def fm_X1_compile (n : Nat) (k0 : Nat)  (σ : hc_St) : Option hc_St := Option.bind (fm_X8_variables  σ) fun r1 => Option.bind (fm_X11_wordsOf ((-1)) σ) fun r5 => hl (pI σ 0 14 r5) fun σ9 => Option.bind (fm_X13_placeAll n 4096 σ9) fun r10 => hl (pI r10.2 0 13 r10.1) fun σ14 => Option.bind (fm_X12_clear  σ14) fun r15 => Option.bind (fm_X8_main n r15) fun r19 => Option.bind (fm_X13_compile n k0 r19.1 r19.2) fun r23 => Option.bind (fm_X12_finish n r23) fun r27 => Option.bind (lp_X1_compile_59 n k0 n 0 r27) fun r45 => some r45
set_option maxRecDepth 20000 in
set_option maxHeartbeats 4000000 in
theorem ll_X1_compile_59 {l : Launch} {E : hc_E} {A : Nat → Prop} {am : Nat → Nat → Nat} {d : Nat} {X : hc_X} (n : Nat) (k0 : Nat) (hD : 3 * k0 + 18 ≤ d) (hem : X.2.2.2.2.2.2.2.2.2.1.exceptionTable.isEmpty = true) {oc : hc_Oc} {σe : hc_St} (hC : hc_C hc_V0 E cX1_compile 2 RX1 none d oc σe (l, A, am, [2, 3, 4, 12, 13, 14, 16, 22]) X) : ∀ (m : Nat) (σ : hc_St) (y1 : Int32) (rl : hc_St) (am1 : Nat → Nat → Nat), lp_X1_compile_59 n k0 m y1 σ = some rl → (hc_At hc_V0 E 2 X 102 [] [] rl am1 []) → hc_At hc_V0 E 2 X 59 [(0, .ref (E.2.1 0)), (1, .int y1)] [] σ am1 [] := by
  have hd1 : 1 ≤ d := by omega
  have hd8 : 9 ≤ d := by omega
  have hd12 : 12 ≤ d := by omega
  intro m
  induction m with
  | zero =>
    intro σ y1 rl am1 h
    cases h
  | succ m ih =>
    intro σ y1 rl am1 h JX
    rw [lp_X1_compile_59] at h
    refine hr_iload_n hC dX1_compile_59 rfl ?_
    refine hr_aload_n hC dX1_compile_60 rfl ?_
    refine hr_gO 13 hC F0_7 rfl dX1_compile_61 q998 ?_
    obtain ⟨r31, e32, h⟩ := hx_bind h
    refine hs_callV0 hC 13 [] _ dX1_compile_64 q2334 q2335 q2336 q326 q2337 np_X12 rfl OB_13 pd_X12_count (Nat.le_of_ble_eq_true rfl) hd1 (okX12_count l E A (d - 1)  (by omega)  e32 am1) rfl ?_
    refine hr_icmp_ge (x := _) hC 102 dX1_compile_67 (by decide) (fun c36 => ?_) (fun c36 => ?_)
    · rw [if_pos c36] at h
      obtain rfl := Option.some.inj h
      exact hr_sub _ rfl (JX)
    · rw [if_neg c36] at h
      refine hr_aload_n hC dX1_compile_70 rfl ?_
      refine hr_gO 17 hC F0_9 rfl dX1_compile_71 q1000 ?_
      refine hr_gON 18 hC F17_0 rfl dX1_compile_74 (nl_1 hC.2.2.2.2.2.2.2.2.1) ?_
      refine hr_aload_n hC dX1_compile_77 rfl ?_
      refine hr_gI hC F0_13 dX1_compile_78 q1004 ?_
      refine hr_iconst (v := 4) hC dX1_compile_81 rfl ?_
      refine hr_iload_n hC dX1_compile_82 rfl ?_
      refine hr_imul hC dX1_compile_83 ?_
      refine hr_iadd hC dX1_compile_84 ?_
      refine hr_aload_n hC dX1_compile_85 rfl ?_
      refine hr_gO 13 hC F0_7 rfl dX1_compile_86 q998 ?_
      refine hr_iload_n hC dX1_compile_89 rfl ?_
      obtain ⟨r37, e38, h⟩ := hx_bind h
      refine hs_callV0 hC 13 [_] _ dX1_compile_90 q2338 q2339 q2340 q326 q2341 np_X12 rfl OB_13 pd_X12_word (Nat.le_of_ble_eq_true rfl) hd1 (okX12_word l E A (d - 1)  (by omega)  e38 am1) rfl ?_
      obtain ⟨r41, e42, h⟩ := hx_bind h
      refine hs_callV0 hC 18 [_, _] _ dX1_compile_93 q2342 q2343 q2344 q331 q2345 np_X17 rfl OB_18 pd_X17_write (Nat.le_of_ble_eq_true rfl) hd1 (okX17_write l E A (d - 1)  (by omega)  e42 am1) rfl ?_
      refine hr_iinc (v := y1 + 1) hC dX1_compile_96 rfl rfl (by decide) ?_
      refine hr_goto hC 59 dX1_compile_99 (by decide) ?_
      exact hr_sub _ rfl (ih _ _ _ am1 h JX)
set_option maxRecDepth 20000 in
set_option maxHeartbeats 4000000 in
theorem okX1_compile (l : Launch) (E : hc_E) (A : Nat → Prop) (d : Nat) (n : Nat) (k0 : Nat) (hD : 3 * k0 + 18 ≤ d)  {σ : hc_St} {r : hc_St} (h : fm_X1_compile n k0  σ = some r) (am : Nat → Nat → Nat) : hc_M l hc_V0 yX1_compile (ws_ yX1_compile cX1_compile 2 none) d E A [.ref (E.2.1 0)] am [2, 3, 4, 12, 13, 14, 16, 22] σ (.inl none) r := by
  have hd1 : 1 ≤ d := by omega
  have hd8 : 9 ≤ d := by omega
  have hd12 : 12 ≤ d := by omega
  refine hc_enter2 (own := RX1) [(0, .ref (E.2.1 0))] pl_X1 rfl hc_V0_st hc_G0_nd rfl (Nat.le_of_ble_eq_true rfl) (fun X hC hem => ?_)
  unfold fm_X1_compile at h
  refine hr_aload_n hC dX1_compile_0 rfl ?_
  refine hr_aload_n hC dX1_compile_1 rfl ?_
  refine hr_gO 8 hC F0_6 rfl dX1_compile_2 q997 ?_
  obtain ⟨r1, e2, h⟩ := hx_bind h
  refine hs_callV0 hC 8 [] _ dX1_compile_5 q1857 q745 q746 q322 q747 np_X8 rfl OB_8 pd_X8_variables (Nat.le_of_ble_eq_true rfl) hd1 (okX8_variables l E A (d - 1)  (by omega)  e2 am) rfl ?_
  refine hr_iconst (v := (-1)) hC dX1_compile_8 rfl ?_
  obtain ⟨r5, e6, h⟩ := hx_bind h
  refine hs_callV0 hC 11 [_] _ dX1_compile_9 q1858 q1841 q1842 q325 q1843 np_X11 rfl OB_11 pd_X11_wordsOf (Nat.le_of_ble_eq_true rfl) hd1 (okX11_wordsOf l E A (d - 1)  (by omega)  e6 am) rfl ?_
  obtain ⟨σ9, hσ9, h⟩ := hl_ok h
  refine hr_pI hC F0_14 PX1_14 dX1_compile_12 q1005 ?_
  rw [← hσ9]
  refine hr_aload_n hC dX1_compile_15 rfl ?_
  refine hr_aload_n hC dX1_compile_16 rfl ?_
  refine hr_gO 14 hC F0_8 rfl dX1_compile_17 q999 ?_
  refine hr_sipush (v := 4096) hC dX1_compile_20 rfl ?_
  obtain ⟨r10, e11, h⟩ := hx_bind h
  refine hs_callV hC 14 [_] _ dX1_compile_23 q1859 q1860 q1861 q327 q1862 np_X13 rfl OB_14 pd_X13_placeAll (Nat.le_of_ble_eq_true rfl) hd1 (okX13_placeAll l E A (d - 1) n (by omega)  e11 am) (hc_rb rfl) rfl (fun am12 ha13 => ?_)
  obtain ⟨σ14, hσ14, h⟩ := hl_ok h
  refine hr_pI hC F0_13 PX1_13 dX1_compile_26 q1004 ?_
  rw [← hσ14]
  refine hr_aload_n hC dX1_compile_29 rfl ?_
  refine hr_gO 13 hC F0_7 rfl dX1_compile_30 q998 ?_
  obtain ⟨r15, e16, h⟩ := hx_bind h
  refine hs_callV0 hC 13 [] _ dX1_compile_33 q1872 q1873 q1874 q326 q1875 np_X12 rfl OB_13 pd_X12_clear (Nat.le_of_ble_eq_true rfl) hd1 (okX12_clear l E A (d - 1)  (by omega)  e16 am12) rfl ?_
  refine hr_aload_n hC dX1_compile_36 rfl ?_
  refine hr_gO 14 hC F0_8 rfl dX1_compile_37 q999 ?_
  refine hr_aload_n hC dX1_compile_40 rfl ?_
  refine hr_gO 8 hC F0_6 rfl dX1_compile_41 q997 ?_
  obtain ⟨r19, e20, h⟩ := hx_bind h
  refine hs_callV hC 8 [] _ dX1_compile_44 q1876 q1877 q1878 q322 q1879 np_X8 rfl OB_8 pd_X8_main (Nat.le_of_ble_eq_true rfl) hd1 (okX8_main l E A (d - 1) n (by omega)  e20 am12) (hc_rb rfl) rfl (fun am21 ha22 => ?_)
  obtain ⟨r23, e24, h⟩ := hx_bind h
  refine hs_callV hC 14 [_] _ dX1_compile_47 q1880 q1881 q1882 q327 q1883 np_X13 rfl OB_14 pd_X13_compile (Nat.le_of_ble_eq_true rfl) hd1 (okX13_compile l E A (d - 1) n k0 (by omega)  e24 am21) (hc_rb rfl) rfl (fun am25 ha26 => ?_)
  refine hr_aload_n hC dX1_compile_50 rfl ?_
  refine hr_gO 13 hC F0_7 rfl dX1_compile_51 q998 ?_
  obtain ⟨r27, e28, h⟩ := hx_bind h
  refine hs_callV0 hC 13 [] _ dX1_compile_54 q2330 q2331 q2332 q326 q2333 np_X12 rfl OB_13 pd_X12_finish (Nat.le_of_ble_eq_true rfl) hd1 (okX12_finish l E A (d - 1) n (by omega)  e28 am25) rfl ?_
  refine hr_iconst (v := 0) hC dX1_compile_57 rfl ?_
  refine hr_istore_n hC dX1_compile_58 (by decide) ?_
  obtain ⟨r45, e46, h⟩ := hx_bind h
  refine hr_sub _ rfl (ll_X1_compile_59 n k0 hD hem hC n _ _ _ am25 e46 ?_)
  obtain rfl := Option.some.inj h
  exact hr_vret hC dX1_compile_102
/-- HomeCompiler.place()I -/
def fm_X1_place   (σ : hc_St) : Option Int32 := some ((gI σ 0 12))
set_option maxRecDepth 20000 in
set_option maxHeartbeats 4000000 in
theorem okX1_place (l : Launch) (E : hc_E) (A : Nat → Prop) (d : Nat)  (hD : 1 ≤ d)  {σ : hc_St} {r : Int32} (h : fm_X1_place   σ = some r) (am : Nat → Nat → Nat) : hc_M l hc_V0 yX1_place (ws_ yX1_place cX1_place 1 (some .int)) d E A [.ref (E.2.1 0)] am [] σ (.inl (some (.int r))) σ := by
  have hd1 : 1 ≤ d := by omega
  refine hc_enter2 (own := RX1) [(0, .ref (E.2.1 0))] pl_X1 rfl hc_V0_st hc_G0_nd rfl (Nat.le_of_ble_eq_true rfl) (fun X hC hem => ?_)
  unfold fm_X1_place at h
  refine hr_aload_n hC dX1_place_0 rfl ?_
  refine hr_gI hC F0_12 dX1_place_1 q1003 ?_
  obtain rfl := Option.some.inj h
  exact hr_iret hC dX1_place_4
/-- HomeCompiler.value()I -/
def fm_X1_value   (σ : hc_St) : Option Int32 := some ((gI σ 17 8))
set_option maxRecDepth 20000 in
set_option maxHeartbeats 4000000 in
theorem okX1_value (l : Launch) (E : hc_E) (A : Nat → Prop) (d : Nat)  (hD : 1 ≤ d)  {σ : hc_St} {r : Int32} (h : fm_X1_value   σ = some r) (am : Nat → Nat → Nat) : hc_M l hc_V0 yX1_value (ws_ yX1_value cX1_value 1 (some .int)) d E A [.ref (E.2.1 0)] am [] σ (.inl (some (.int r))) σ := by
  have hd1 : 1 ≤ d := by omega
  refine hc_enter2 (own := RX1) [(0, .ref (E.2.1 0))] pl_X1 rfl hc_V0_st hc_G0_nd rfl (Nat.le_of_ble_eq_true rfl) (fun X hC hem => ?_)
  unfold fm_X1_value at h
  refine hr_aload_n hC dX1_value_0 rfl ?_
  refine hr_gO 17 hC F0_9 rfl dX1_value_1 q1000 ?_
  refine hr_gIN hC F17_8 dX1_value_4 (nl_8 hC.2.2.2.2.2.2.2.2.1) ?_
  obtain rfl := Option.some.inj h
  exact hr_iret hC dX1_value_7
/-- HomeCompiler.left()I -/
def fm_X1_left   (σ : hc_St) : Option Int32 := some ((gI σ 0 16))
set_option maxRecDepth 20000 in
set_option maxHeartbeats 4000000 in
theorem okX1_left (l : Launch) (E : hc_E) (A : Nat → Prop) (d : Nat)  (hD : 1 ≤ d)  {σ : hc_St} {r : Int32} (h : fm_X1_left   σ = some r) (am : Nat → Nat → Nat) : hc_M l hc_V0 yX1_left (ws_ yX1_left cX1_left 1 (some .int)) d E A [.ref (E.2.1 0)] am [] σ (.inl (some (.int r))) σ := by
  have hd1 : 1 ≤ d := by omega
  refine hc_enter2 (own := RX1) [(0, .ref (E.2.1 0))] pl_X1 rfl hc_V0_st hc_G0_nd rfl (Nat.le_of_ble_eq_true rfl) (fun X hC hem => ?_)
  unfold fm_X1_left at h
  refine hr_aload_n hC dX1_left_0 rfl ?_
  refine hr_gI hC F0_16 dX1_left_1 q1007 ?_
  obtain rfl := Option.some.inj h
  exact hr_iret hC dX1_left_4
/-- HomeCompiler.paper()I -/
def fm_X1_paper   (σ : hc_St) : Option Int32 := some ((gI σ 17 4))
set_option maxRecDepth 20000 in
set_option maxHeartbeats 4000000 in
theorem okX1_paper (l : Launch) (E : hc_E) (A : Nat → Prop) (d : Nat)  (hD : 1 ≤ d)  {σ : hc_St} {r : Int32} (h : fm_X1_paper   σ = some r) (am : Nat → Nat → Nat) : hc_M l hc_V0 yX1_paper (ws_ yX1_paper cX1_paper 1 (some .int)) d E A [.ref (E.2.1 0)] am [] σ (.inl (some (.int r))) σ := by
  have hd1 : 1 ≤ d := by omega
  refine hc_enter2 (own := RX1) [(0, .ref (E.2.1 0))] pl_X1 rfl hc_V0_st hc_G0_nd rfl (Nat.le_of_ble_eq_true rfl) (fun X hC hem => ?_)
  unfold fm_X1_paper at h
  refine hr_aload_n hC dX1_paper_0 rfl ?_
  refine hr_gO 17 hC F0_9 rfl dX1_paper_1 q1000 ?_
  refine hr_gIN hC F17_4 dX1_paper_4 (nl_4 hC.2.2.2.2.2.2.2.2.1) ?_
  obtain rfl := Option.some.inj h
  exact hr_iret hC dX1_paper_7
/-- HomeCompiler.inputs()I -/
def fm_X1_inputs   (σ : hc_St) : Option Int32 := some ((gI σ 17 6))
set_option maxRecDepth 20000 in
set_option maxHeartbeats 4000000 in
theorem okX1_inputs (l : Launch) (E : hc_E) (A : Nat → Prop) (d : Nat)  (hD : 1 ≤ d)  {σ : hc_St} {r : Int32} (h : fm_X1_inputs   σ = some r) (am : Nat → Nat → Nat) : hc_M l hc_V0 yX1_inputs (ws_ yX1_inputs cX1_inputs 1 (some .int)) d E A [.ref (E.2.1 0)] am [] σ (.inl (some (.int r))) σ := by
  have hd1 : 1 ≤ d := by omega
  refine hc_enter2 (own := RX1) [(0, .ref (E.2.1 0))] pl_X1 rfl hc_V0_st hc_G0_nd rfl (Nat.le_of_ble_eq_true rfl) (fun X hC hem => ?_)
  unfold fm_X1_inputs at h
  refine hr_aload_n hC dX1_inputs_0 rfl ?_
  refine hr_gO 17 hC F0_9 rfl dX1_inputs_1 q1000 ?_
  refine hr_gIN hC F17_6 dX1_inputs_4 (nl_6 hC.2.2.2.2.2.2.2.2.1) ?_
  obtain rfl := Option.some.inj h
  exact hr_iret hC dX1_inputs_7
/-- HomeCompiler.life()I -/
def fm_X1_life   (σ : hc_St) : Option Int32 := some ((gI σ 0 17))
set_option maxRecDepth 20000 in
set_option maxHeartbeats 4000000 in
theorem okX1_life (l : Launch) (E : hc_E) (A : Nat → Prop) (d : Nat)  (hD : 1 ≤ d)  {σ : hc_St} {r : Int32} (h : fm_X1_life   σ = some r) (am : Nat → Nat → Nat) : hc_M l hc_V0 yX1_life (ws_ yX1_life cX1_life 1 (some .int)) d E A [.ref (E.2.1 0)] am [] σ (.inl (some (.int r))) σ := by
  have hd1 : 1 ≤ d := by omega
  refine hc_enter2 (own := RX1) [(0, .ref (E.2.1 0))] pl_X1 rfl hc_V0_st hc_G0_nd rfl (Nat.le_of_ble_eq_true rfl) (fun X hC hem => ?_)
  unfold fm_X1_life at h
  refine hr_aload_n hC dX1_life_0 rfl ?_
  refine hr_gI hC F0_17 dX1_life_1 q1008 ?_
  obtain rfl := Option.some.inj h
  exact hr_iret hC dX1_life_4
/-- HomeCompilerModel.thrown()I -/
def fm_X21_thrown   (σ : hc_St) : Option Int32 := some ((gI σ 23 4))
set_option maxRecDepth 20000 in
set_option maxHeartbeats 4000000 in
theorem okX21_thrown (l : Launch) (E : hc_E) (A : Nat → Prop) (d : Nat)  (hD : 1 ≤ d)  {σ : hc_St} {r : Int32} (h : fm_X21_thrown   σ = some r) (am : Nat → Nat → Nat) : hc_M l hc_V0 yX21_thrown (ws_ yX21_thrown cX21_thrown 1 (some .int)) d E A [.ref (E.2.1 23)] am [] σ (.inl (some (.int r))) σ := by
  have hd1 : 1 ≤ d := by omega
  refine hc_enter2 (own := RX21) [(0, .ref (E.2.1 23))] pl_X21 rfl hc_V0_st hc_G0_nd rfl (Nat.le_of_ble_eq_true rfl) (fun X hC hem => ?_)
  unfold fm_X21_thrown at h
  refine hr_aload_n hC dX21_thrown_0 rfl ?_
  refine hr_gI hC F23_4 dX21_thrown_1 q2846 ?_
  obtain rfl := Option.some.inj h
  exact hr_iret hC dX21_thrown_4
