set_option maxRecDepth 20000
def okg_X8_tallest (l : Launch) (E : hc_E) (A : Nat → Prop) (d : Nat) (am : Nat → Nat → Nat) (w : Nat) (a : List Int32) (σ : hc_St) (r : (Int32 × hc_St)) : Prop := match w with
  | 0 => hc_M l hc_V0 yX8_tallest (ws_ yX8_tallest cX8_tallest 5 (some .int)) d E A [.ref (E.2.1 8), .int (a.getD 0 0)] am [] σ (.inl (some (.int r.1))) r.2
  | _ => True
def lp_X8_tallest_43 (n : Nat) (k0 : Nat) (rec : Nat → List Int32 → hc_St → Option (Int32 × hc_St)) : Nat → Int32 → Int32 → hc_St → Option (hc_St × Int32)
  | 0, _, _, _ => none
  | m + 1, y3, y4, σ => if y4 = (-1) then (some (σ, y3)) else (Option.bind (rec 0 [y4] σ) fun r19 => Option.bind (fm_X6_next y4 r19.2) fun r24 => lp_X8_tallest_43 n k0 rec m ((jmax y3 r19.1)) r24 r19.2)
/-- HomeCompiler$Checker.tallest(I)I -/
def bd_X8_tallest (n : Nat) (k0 : Nat) (rec : Nat → List Int32 → hc_St → Option (Int32 × hc_St)) (x1 : Int32) (σ : hc_St) : Option (Int32 × hc_St) := Option.bind (fm_X6_kind x1 σ) fun r1 => if r1 < 30 then (Option.bind (α := Int32) (if r1 = 23 then (some ((-1))) else (Option.bind (fm_X6_first x1 σ) fun r13 => some (r13))) fun r9 => Option.bind (lp_X8_tallest_43 n k0 rec n 0 r9 σ) fun r28 => some (r28.2, r28.1)) else (Option.bind (fm_X8_height n k0 x1 σ) fun r33 => some (r33.1, r33.2))
set_option maxRecDepth 20000 in
set_option maxHeartbeats 4000000 in
theorem ll_X8_tallest_43 {l : Launch} {E : hc_E} {A : Nat → Prop} {am : Nat → Nat → Nat} {d : Nat} {kk : Nat} {X : hc_X} (n : Nat) (k0 : Nat) (rec : Nat → List Int32 → hc_St → Option (Int32 × hc_St)) (hD : kk + 1 * k0 + 4 ≤ d) (hem : X.2.2.2.2.2.2.2.2.2.1.exceptionTable.isEmpty = true) (IH : ∀ (w : Nat) (a : List Int32) (σ : hc_St) (r : (Int32 × hc_St)), rec w a σ = some r → ∀ am, okg_X8_tallest l E A (d - 1) am w a σ r) {oc : hc_Oc} {σe : hc_St} (hC : hc_C hc_V0 E cX8_tallest 5 RX8 (some .int) d oc σe (l, A, am, []) X) : ∀ (m : Nat) (σ : hc_St) (y3 : Int32) (y4 : Int32) (rl : hc_St × Int32) (am1 : Nat → Nat → Nat), lp_X8_tallest_43 n k0 rec m y3 y4 σ = some rl → (hc_At hc_V0 E 5 X 74 [(3, .int rl.2)] [] rl.1 am1 []) → hc_At hc_V0 E 5 X 43 [(0, .ref (E.2.1 8)), (3, .int y3), (4, .int y4)] [] σ am1 [] := by
  have hd1 : 1 ≤ d := by omega
  intro m
  induction m with
  | zero =>
    intro σ y3 y4 rl am1 h
    cases h
  | succ m ih =>
    intro σ y3 y4 rl am1 h JX
    rw [lp_X8_tallest_43] at h
    refine hr_iload hC dX8_tallest_43 rfl ?_
    refine hr_iconst (v := (-1)) hC dX8_tallest_45 rfl ?_
    refine hr_icmp_eq (x := _) hC 74 dX8_tallest_46 (by decide) (fun c18 => ?_) (fun c18 => ?_)
    · rw [if_pos c18] at h
      obtain rfl := Option.some.inj h
      exact hr_sub _ rfl (JX)
    · rw [if_neg c18] at h
      refine hr_iload_n hC dX8_tallest_49 rfl ?_
      refine hr_aload_n hC dX8_tallest_50 rfl ?_
      refine hr_iload hC dX8_tallest_51 rfl ?_
      obtain ⟨r19, e20, h⟩ := hx_bind h
      refine hs_callV0 hC 8 [_] _ dX8_tallest_53 q1808 q1810 qs90 q322 q1811 np_X8 rfl OB_8 pd_X8_tallest (Nat.le_of_ble_eq_true rfl) hd1 (IH _ _ _ _ e20 am1) rfl ?_
      refine hr_max hC dX8_tallest_56 q1702 hd1 (Nat.le_of_ble_eq_true rfl) ?_
      refine hr_istore_n hC dX8_tallest_59 (by decide) ?_
      refine hr_aload_n hC dX8_tallest_60 rfl ?_
      refine hr_gO 6 hC F8_0 rfl dX8_tallest_61 q661 ?_
      refine hr_iload hC dX8_tallest_64 rfl ?_
      obtain ⟨r24, e25, h⟩ := hx_bind h
      refine hs_callV0 hC 6 [_] _ dX8_tallest_66 q1602 q1603 q1604 q320 q1605 np_X6 rfl OB_6 pd_X6_next (Nat.le_of_ble_eq_true rfl) hd1 (okX6_next l E A (d - 1)  (by omega)  e25 am1) rfl ?_
      refine hr_istore hC dX8_tallest_69 (by decide) ?_
      refine hr_goto hC 43 dX8_tallest_71 (by decide) ?_
      exact hr_sub _ rfl (ih _ _ _ _ am1 h JX)
set_option maxRecDepth 20000 in
set_option maxHeartbeats 4000000 in
theorem okbX8_tallest (l : Launch) (E : hc_E) (A : Nat → Prop) (d : Nat) {kk : Nat} (n : Nat) (k0 : Nat) (rec : Nat → List Int32 → hc_St → Option (Int32 × hc_St)) (hD : kk + 1 * k0 + 4 ≤ d) (IH : ∀ (w : Nat) (a : List Int32) (σ : hc_St) (r : (Int32 × hc_St)), rec w a σ = some r → ∀ am, okg_X8_tallest l E A (d - 1) am w a σ r) {x1 : Int32} {σ : hc_St} {r : (Int32 × hc_St)} (h : bd_X8_tallest n k0 rec x1 σ = some r) (am : Nat → Nat → Nat) : hc_M l hc_V0 yX8_tallest (ws_ yX8_tallest cX8_tallest 5 (some .int)) d E A [.ref (E.2.1 8), .int x1] am [] σ (.inl (some (.int r.1))) r.2 := by
  have hd1 : 1 ≤ d := by omega
  refine hc_enter2 (own := RX8) [(0, .ref (E.2.1 8)), (1, .int x1)] pl_X8 rfl hc_V0_st hc_G0_nd rfl (Nat.le_of_ble_eq_true rfl) (fun X hC hem => ?_)
  unfold bd_X8_tallest at h
  refine hr_aload_n hC dX8_tallest_0 rfl ?_
  refine hr_gO 6 hC F8_0 rfl dX8_tallest_1 q661 ?_
  refine hr_iload_n hC dX8_tallest_4 rfl ?_
  obtain ⟨r1, e2, h⟩ := hx_bind h
  refine hs_callV0 hC 6 [_] _ dX8_tallest_5 q1579 q1369 q1370 q320 q1371 np_X6 rfl OB_6 pd_X6_kind (Nat.le_of_ble_eq_true rfl) hd1 (okX6_kind l E A (d - 1)  (by omega)  e2 am) rfl ?_
  refine hr_istore_n hC dX8_tallest_8 (by decide) ?_
  refine hr_iload_n hC dX8_tallest_9 rfl ?_
  refine hr_bipush (v := 30) hC dX8_tallest_10 rfl ?_
  refine hr_icmp_lt (x := _) hC 21 dX8_tallest_12 (by decide) (fun c6 => ?_) (fun c6 => ?_)
  · rw [if_pos c6] at h
    refine hr_iconst (v := 0) hC dX8_tallest_21 rfl ?_
    refine hr_istore_n hC dX8_tallest_22 (by decide) ?_
    refine hr_iload_n hC dX8_tallest_23 rfl ?_
    refine hr_bipush (v := 23) hC dX8_tallest_24 rfl ?_
    obtain ⟨r9, e10, h⟩ := hx_bind h
    have J11 : hc_At hc_V0 E 5 X 41 [(0, .ref (E.2.1 8)), (3, .int 0)] [.int r9] σ am [] := by
      refine hr_istore hC dX8_tallest_41 (by decide) ?_
      obtain ⟨r28, e29, h⟩ := hx_bind h
      refine hr_sub _ rfl (ll_X8_tallest_43 n k0 rec hD hem IH hC n _ _ _ _ am e29 ?_)
      refine hr_iload_n hC dX8_tallest_74 rfl ?_
      obtain rfl := Option.some.inj h
      exact hr_iret hC dX8_tallest_75
    clear h
    have h := e10
    refine hr_icmp_ne (x := _) hC 33 dX8_tallest_26 (by decide) (fun c8 => ?_) (fun c8 => ?_)
    · rw [if_neg c8] at h
      refine hr_aload_n hC dX8_tallest_33 rfl ?_
      refine hr_gO 6 hC F8_0 rfl dX8_tallest_34 q661 ?_
      refine hr_iload_n hC dX8_tallest_37 rfl ?_
      obtain ⟨r13, e14, h⟩ := hx_bind h
      refine hs_callV0 hC 6 [_] _ dX8_tallest_38 q1575 q1576 q1577 q320 q1578 np_X6 rfl OB_6 pd_X6_first (Nat.le_of_ble_eq_true rfl) hd1 (okX6_first l E A (d - 1)  (by omega)  e14 am) rfl ?_
      obtain rfl := Option.some.inj h
      exact hr_sub _ rfl (J11)
    · rw [if_pos c8] at h
      refine hr_iconst (v := (-1)) hC dX8_tallest_29 rfl ?_
      refine hr_goto hC 41 dX8_tallest_30 (by decide) ?_
      obtain rfl := Option.some.inj h
      exact hr_sub _ rfl (J11)
  · rw [if_neg c6] at h
    refine hr_aload_n hC dX8_tallest_15 rfl ?_
    refine hr_iload_n hC dX8_tallest_16 rfl ?_
    obtain ⟨r33, e34, h⟩ := hx_bind h
    refine hs_callV0 hC 8 [_] _ dX8_tallest_17 q1812 q1814 qs91 q322 q1815 np_X8 rfl OB_8 pd_X8_height (Nat.le_of_ble_eq_true rfl) hd1 (okX8_height l E A (d - 1) n k0 (by omega)  e34 am) rfl ?_
    obtain rfl := Option.some.inj h
    exact hr_iret hC dX8_tallest_20
def rc_X8_tallest (n : Nat) (k0 : Nat) : Nat → Nat → List Int32 → hc_St → Option (Int32 × hc_St)
  | 0, _, _, _ => none
  | k + 1, w, a, σ => match w with
    | 0 => bd_X8_tallest n k0 (rc_X8_tallest n k0 k) (a.getD 0 0) σ
    | _ => none
theorem okr_X8_tallest (l : Launch) (E : hc_E) (A : Nat → Prop) (n : Nat) (k0 : Nat) : ∀ (k d : Nat), k + 1 * k0 + 4 ≤ d → ∀ (w : Nat) (a : List Int32) (σ : hc_St) (r : (Int32 × hc_St)), rc_X8_tallest n k0 k w a σ = some r → ∀ am, okg_X8_tallest l E A d am w a σ r
  | 0, d, _, w, a, σ, r, h, am => by cases h
  | k + 1, d, hd, w, a, σ, r, h, am => by
    have IH := okr_X8_tallest l E A n k0 k (d - 1) (by omega)
    match w, h with
    | 0, h => exact okbX8_tallest l E A d (kk := k) n k0 (rc_X8_tallest n k0 k) (by omega) IH h am
    | w + 1, h => trivial
def fm_X8_tallest (n : Nat) (k0 : Nat) (x1 : Int32) (σ : hc_St) : Option (Int32 × hc_St) := rc_X8_tallest n k0 k0 0 [x1] σ
theorem okX8_tallest (l : Launch) (E : hc_E) (A : Nat → Prop) (d : Nat) (n : Nat) (k0 : Nat) (hD : k0 + 1 * k0 + 4 ≤ d)  {x1 : Int32} {σ : hc_St} {r : (Int32 × hc_St)} (h : fm_X8_tallest n k0 x1 σ = some r) (am : Nat → Nat → Nat) : hc_M l hc_V0 yX8_tallest (ws_ yX8_tallest cX8_tallest 5 (some .int)) d E A [.ref (E.2.1 8), .int x1] am [] σ (.inl (some (.int r.1))) r.2 := okr_X8_tallest l E A n k0 k0 d hD 0 _ _ _ h am
def lp_X8_function_38 (n : Nat) (k0 : Nat) : Nat → Int32 → hc_St → Option (hc_St × Int32)
  | 0, _, _ => none
  | m + 1, y2, σ => Option.bind (fm_X6_kind y2 σ) fun r16 => if r16 = 5 then (Option.bind (fm_X6_op y2 σ) fun r22 => Option.bind (fm_X6_extra y2 σ) fun r26 => hl (α := Int32) ((if r26 = (-1) then 0 else (-1))) fun v32 => Option.bind (fm_X11_add n r22 v32 ((gI σ 8 11)) σ) fun r33 => Option.bind (fm_X6_setNumber y2 r33.1 r33.2) fun r37 => Option.bind (fm_X6_value y2 r37) fun r41 => Option.bind (fm_X6_place y2 r37) fun r45 => Option.bind (fm_X8_declare r41 1 r33.1 r45 r37) fun r49 => Option.bind (fm_X6_next y2 r49) fun r53 => lp_X8_function_38 n k0 m r53 r49) else (some (σ, y2))
/-- HomeCompiler$Checker.function(I)V -/
def fm_X8_function (n : Nat) (k0 : Nat) (x1 : Int32) (σ : hc_St) : Option hc_St := Option.bind (fm_X6_extra x1 σ) fun r1 => hl (pI σ 8 11 r1) fun σ5 => hl (pI σ5 8 12 0) fun σ6 => hl (pI σ6 8 13 0) fun σ7 => Option.bind (fm_X10_open  σ7) fun r8 => Option.bind (fm_X6_first x1 r8) fun r12 => Option.bind (lp_X8_function_38 n k0 n r12 r8) fun r60 => Option.bind (fm_X8_statements n k0 r60.2 r60.1) fun r65 => Option.bind (fm_X8_tallest n k0 r60.2 r65.2) fun r69 => hk (inb ((gI r65.2 8 11)) (gL r69.2 8 8)) <| hl (pC r69.2 8 8 ((gI r65.2 8 11)) r69.1) fun σ74 => Option.bind (fm_X10_close n σ74) fun r75 => some r75
set_option maxRecDepth 20000 in
set_option maxHeartbeats 4000000 in
theorem ll_X8_function_38 {l : Launch} {E : hc_E} {A : Nat → Prop} {am : Nat → Nat → Nat} {d : Nat} {X : hc_X} (n : Nat) (k0 : Nat) (hD : 3 * k0 + 15 ≤ d) (hem : X.2.2.2.2.2.2.2.2.2.1.exceptionTable.isEmpty = true) {oc : hc_Oc} {σe : hc_St} (hC : hc_C hc_V0 E cX8_function 4 RX8 none d oc σe (l, A, am, [10, 11]) X) : ∀ (m : Nat) (σ : hc_St) (y2 : Int32) (rl : hc_St × Int32), lp_X8_function_38 n k0 m y2 σ = some rl → (∀ am1, hc_At hc_V0 E 4 X 130 [(0, .ref (E.2.1 8)), (2, .int rl.2)] [] rl.1 am1 []) → ∀ am1, hc_At hc_V0 E 4 X 38 [(0, .ref (E.2.1 8)), (2, .int y2)] [] σ am1 [] := by
  have hd1 : 1 ≤ d := by omega
  have hd8 : 9 ≤ d := by omega
  have hd12 : 12 ≤ d := by omega
  intro m
  induction m with
  | zero =>
    intro σ y2 rl h
    cases h
  | succ m ih =>
    intro σ y2 rl h JX am1
    rw [lp_X8_function_38] at h
    refine hr_aload_n hC dX8_function_38 rfl ?_
    refine hr_gO 6 hC F8_0 rfl dX8_function_39 q661 ?_
    refine hr_iload_n hC dX8_function_42 rfl ?_
    obtain ⟨r16, e17, h⟩ := hx_bind h
    refine hs_callV0 hC 6 [_] _ dX8_function_43 q1579 q1369 q1370 q320 q1371 np_X6 rfl OB_6 pd_X6_kind (Nat.le_of_ble_eq_true rfl) hd1 (okX6_kind l E A (d - 1)  (by omega)  e17 am1) rfl ?_
    refine hr_iconst (v := 5) hC dX8_function_46 rfl ?_
    refine hr_icmp_ne (x := _) hC 130 dX8_function_47 (by decide) (fun c21 => ?_) (fun c21 => ?_)
    · rw [if_neg c21] at h
      obtain rfl := Option.some.inj h
      exact hr_sub _ rfl (JX am1)
    · rw [if_pos c21] at h
      refine hr_aload_n hC dX8_function_50 rfl ?_
      refine hr_gO 11 hC F8_5 rfl dX8_function_51 q666 ?_
      refine hr_aload_n hC dX8_function_54 rfl ?_
      refine hr_gO 6 hC F8_0 rfl dX8_function_55 q661 ?_
      refine hr_iload_n hC dX8_function_58 rfl ?_
      obtain ⟨r22, e23, h⟩ := hx_bind h
      refine hs_callV0 hC 6 [_] _ dX8_function_59 q1638 q1639 q1640 q320 q1641 np_X6 rfl OB_6 pd_X6_op (Nat.le_of_ble_eq_true rfl) hd1 (okX6_op l E A (d - 1)  (by omega)  e23 am1) rfl ?_
      refine hr_aload_n hC dX8_function_62 rfl ?_
      refine hr_gO 6 hC F8_0 rfl dX8_function_63 q661 ?_
      refine hr_iload_n hC dX8_function_66 rfl ?_
      obtain ⟨r26, e27, h⟩ := hx_bind h
      refine hs_callV0 hC 6 [_] _ dX8_function_67 q1686 q1687 q1688 q320 q1689 np_X6 rfl OB_6 pd_X6_extra (Nat.le_of_ble_eq_true rfl) hd1 (okX6_extra l E A (d - 1)  (by omega)  e27 am1) rfl ?_
      refine hr_iconst (v := (-1)) hC dX8_function_70 rfl ?_
      obtain ⟨v32, hv32, h⟩ := hl_ok h
      have J57 : ∀ w58 : Int32, (if r26 = (-1) then 0 else (-1)) = w58 → hc_At hc_V0 E 4 X 79 [(0, .ref (E.2.1 8)), (2, .int y2)] [.int w58, .int r22, .ref (E.2.1 11)] σ am1 [] := by
        intro w58 hw58
        obtain rfl := hv32.trans hw58
        refine hr_aload_n hC dX8_function_79 rfl ?_
        refine hr_gI hC F8_11 dX8_function_80 q672 ?_
        obtain ⟨r33, e34, h⟩ := hx_bind h
        refine hs_callV hC 11 [_, _, _] _ dX8_function_83 q1748 q1749 q1750 q325 q1751 np_X11 rfl OB_11 pd_X11_add (Nat.le_of_ble_eq_true rfl) hd1 (okX11_add l E A (d - 1) n (by omega)  e34 am1) (hc_rb rfl) rfl (fun am35 ha36 => ?_)
        refine hr_istore_n hC dX8_function_86 (by decide) ?_
        refine hr_aload_n hC dX8_function_87 rfl ?_
        refine hr_gO 6 hC F8_0 rfl dX8_function_88 q661 ?_
        refine hr_iload_n hC dX8_function_91 rfl ?_
        refine hr_iload_n hC dX8_function_92 rfl ?_
        obtain ⟨r37, e38, h⟩ := hx_bind h
        refine hs_callV0 hC 6 [_, _] _ dX8_function_93 q1646 q1647 q1648 q320 q1649 np_X6 rfl OB_6 pd_X6_setNumber (Nat.le_of_ble_eq_true rfl) hd1 (okX6_setNumber l E A (d - 1)  (by omega)  e38 am35) rfl ?_
        refine hr_aload_n hC dX8_function_96 rfl ?_
        refine hr_aload_n hC dX8_function_97 rfl ?_
        refine hr_gO 6 hC F8_0 rfl dX8_function_98 q661 ?_
        refine hr_iload_n hC dX8_function_101 rfl ?_
        obtain ⟨r41, e42, h⟩ := hx_bind h
        refine hs_callV0 hC 6 [_] _ dX8_function_102 q1585 q1586 q1587 q320 q1588 np_X6 rfl OB_6 pd_X6_value (Nat.le_of_ble_eq_true rfl) hd1 (okX6_value l E A (d - 1)  (by omega)  e42 am35) rfl ?_
        refine hr_iconst (v := 1) hC dX8_function_105 rfl ?_
        refine hr_iload_n hC dX8_function_106 rfl ?_
        refine hr_aload_n hC dX8_function_107 rfl ?_
        refine hr_gO 6 hC F8_0 rfl dX8_function_108 q661 ?_
        refine hr_iload_n hC dX8_function_111 rfl ?_
        obtain ⟨r45, e46, h⟩ := hx_bind h
        refine hs_callV0 hC 6 [_] _ dX8_function_112 q1593 q1594 q1595 q320 q1596 np_X6 rfl OB_6 pd_X6_place (Nat.le_of_ble_eq_true rfl) hd1 (okX6_place l E A (d - 1)  (by omega)  e46 am35) rfl ?_
        obtain ⟨r49, e50, h⟩ := hx_bind h
        refine hs_callV hC 8 [_, _, _, _] _ dX8_function_115 q1726 q1728 qs75 q322 q1729 np_X8 rfl OB_8 pd_X8_declare (Nat.le_of_ble_eq_true rfl) hd1 (okX8_declare l E A (d - 1)  (by omega)  e50 am35) (hc_rb rfl) rfl (fun am51 ha52 => ?_)
        refine hr_aload_n hC dX8_function_118 rfl ?_
        refine hr_gO 6 hC F8_0 rfl dX8_function_119 q661 ?_
        refine hr_iload_n hC dX8_function_122 rfl ?_
        obtain ⟨r53, e54, h⟩ := hx_bind h
        refine hs_callV0 hC 6 [_] _ dX8_function_123 q1602 q1603 q1604 q320 q1605 np_X6 rfl OB_6 pd_X6_next (Nat.le_of_ble_eq_true rfl) hd1 (okX6_next l E A (d - 1)  (by omega)  e54 am51) rfl ?_
        refine hr_istore_n hC dX8_function_126 (by decide) ?_
        refine hr_goto hC 38 dX8_function_127 (by decide) ?_
        exact hr_sub _ rfl (ih _ _ _ h JX am51)
      refine hr_icmp_ne (x := _) hC 78 dX8_function_71 (by decide) (fun c59 => ?_) (fun c59 => ?_)
      · refine hr_iconst (v := (-1)) hC dX8_function_78 rfl ?_
        exact hr_sub _ rfl (J57 _ (by first | (rw [if_neg c59]; done) | (simp only [if_neg c59]; done) | rfl))
      · refine hr_iconst (v := 0) hC dX8_function_74 rfl ?_
        refine hr_goto hC 79 dX8_function_75 (by decide) ?_
        exact hr_sub _ rfl (J57 _ (by first | (rw [if_pos c59]; done) | (simp only [if_pos c59]; done) | rfl))
set_option maxRecDepth 20000 in
set_option maxHeartbeats 4000000 in
theorem okX8_function (l : Launch) (E : hc_E) (A : Nat → Prop) (d : Nat) (n : Nat) (k0 : Nat) (hD : 3 * k0 + 15 ≤ d) {x1 : Int32} {σ : hc_St} {r : hc_St} (h : fm_X8_function n k0 x1 σ = some r) (am : Nat → Nat → Nat) : hc_M l hc_V0 yX8_function (ws_ yX8_function cX8_function 4 none) d E A [.ref (E.2.1 8), .int x1] am [10, 11] σ (.inl none) r := by
  have hd1 : 1 ≤ d := by omega
  have hd8 : 9 ≤ d := by omega
  have hd12 : 12 ≤ d := by omega
  refine hc_enter2 (own := RX8) [(0, .ref (E.2.1 8)), (1, .int x1)] pl_X8 rfl hc_V0_st hc_G0_nd rfl (Nat.le_of_ble_eq_true rfl) (fun X hC hem => ?_)
  unfold fm_X8_function at h
  refine hr_aload_n hC dX8_function_0 rfl ?_
  refine hr_aload_n hC dX8_function_1 rfl ?_
  refine hr_gO 6 hC F8_0 rfl dX8_function_2 q661 ?_
  refine hr_iload_n hC dX8_function_5 rfl ?_
  obtain ⟨r1, e2, h⟩ := hx_bind h
  refine hs_callV0 hC 6 [_] _ dX8_function_6 q1686 q1687 q1688 q320 q1689 np_X6 rfl OB_6 pd_X6_extra (Nat.le_of_ble_eq_true rfl) hd1 (okX6_extra l E A (d - 1)  (by omega)  e2 am) rfl ?_
  obtain ⟨σ5, hσ5, h⟩ := hl_ok h
  refine hr_pI hC F8_11 PX8_11 dX8_function_9 q672 ?_
  rw [← hσ5]
  refine hr_aload_n hC dX8_function_12 rfl ?_
  refine hr_iconst (v := 0) hC dX8_function_13 rfl ?_
  obtain ⟨σ6, hσ6, h⟩ := hl_ok h
  refine hr_pI hC F8_12 PX8_12 dX8_function_14 q673 ?_
  rw [← hσ6]
  refine hr_aload_n hC dX8_function_17 rfl ?_
  refine hr_iconst (v := 0) hC dX8_function_18 rfl ?_
  obtain ⟨σ7, hσ7, h⟩ := hl_ok h
  refine hr_pI hC F8_13 PX8_13 dX8_function_19 q674 ?_
  rw [← hσ7]
  refine hr_aload_n hC dX8_function_22 rfl ?_
  refine hr_gO 10 hC F8_4 rfl dX8_function_23 q665 ?_
  obtain ⟨r8, e9, h⟩ := hx_bind h
  refine hs_callV0 hC 10 [] _ dX8_function_26 q1768 q1769 q1770 q324 q1771 np_X10 rfl OB_10 pd_X10_open (Nat.le_of_ble_eq_true rfl) hd1 (okX10_open l E A (d - 1)  (by omega)  e9 am) rfl ?_
  refine hr_aload_n hC dX8_function_29 rfl ?_
  refine hr_gO 6 hC F8_0 rfl dX8_function_30 q661 ?_
  refine hr_iload_n hC dX8_function_33 rfl ?_
  obtain ⟨r12, e13, h⟩ := hx_bind h
  refine hs_callV0 hC 6 [_] _ dX8_function_34 q1575 q1576 q1577 q320 q1578 np_X6 rfl OB_6 pd_X6_first (Nat.le_of_ble_eq_true rfl) hd1 (okX6_first l E A (d - 1)  (by omega)  e13 am) rfl ?_
  refine hr_istore_n hC dX8_function_37 (by decide) ?_
  obtain ⟨r60, e61, h⟩ := hx_bind h
  refine hr_sub _ rfl (ll_X8_function_38 n k0 hD hem hC n _ _ _ e61 (fun am64 => ?_) am)
  refine hr_aload_n hC dX8_function_130 rfl ?_
  refine hr_iload_n hC dX8_function_131 rfl ?_
  obtain ⟨r65, e66, h⟩ := hx_bind h
  refine hs_callV hC 8 [_] _ dX8_function_132 q1772 q1774 qs82 q322 q1775 np_X8 rfl OB_8 pd_X8_statements (Nat.le_of_ble_eq_true rfl) hd1 (okX8_statements l E A (d - 1) n k0 (by omega)  e66 am64) (hc_rb rfl) rfl (fun am67 ha68 => ?_)
  refine hr_aload_n hC dX8_function_135 rfl ?_
  refine hr_gA hC F8_8 rfl dX8_function_136 q669 ?_
  refine hr_aload_n hC dX8_function_139 rfl ?_
  refine hr_gI hC F8_11 dX8_function_140 q672 ?_
  refine hr_aload_n hC dX8_function_143 rfl ?_
  refine hr_iload_n hC dX8_function_144 rfl ?_
  obtain ⟨r69, e70, h⟩ := hx_bind h
  refine hs_callV0 hC 8 [_] _ dX8_function_145 q1808 q1810 qs90 q322 q1811 np_X8 rfl OB_8 pd_X8_tallest (Nat.le_of_ble_eq_true rfl) hd1 (okX8_tallest l E A (d - 1) n k0 (by omega)  e70 am67) rfl ?_
  obtain ⟨c73, h⟩ := hk_ok h
  obtain ⟨σ74, hσ74, h⟩ := hl_ok h
  refine hs_iast hC A8_8 c73 dX8_function_148 ?_
  rw [← hσ74]
  refine hr_aload_n hC dX8_function_149 rfl ?_
  refine hr_gO 10 hC F8_4 rfl dX8_function_150 q665 ?_
  obtain ⟨r75, e76, h⟩ := hx_bind h
  refine hs_callV0 hC 10 [] _ dX8_function_153 q1780 q1781 q1782 q324 q1783 np_X10 rfl OB_10 pd_X10_close (Nat.le_of_ble_eq_true rfl) hd1 (okX10_close l E A (d - 1) n (by omega)  e76 am67) rfl ?_
  obtain rfl := Option.some.inj h
  exact hr_vret hC dX8_function_156
def lp_X8_part_23 (n : Nat) (k0 : Nat) : Nat → Int32 → Int32 → hc_St → Option (hc_St)
  | 0, _, _, _ => none
  | m + 1, y2, y3, σ => if y3 = (-1) then (some (σ)) else (Option.bind (fm_X6_first y3 σ) fun r32 => Option.bind (α := hc_St × Int32) (if r32 = (-1) then (some (σ, y2)) else (Option.bind (fm_X6_first y3 σ) fun r42 => Option.bind (fm_X8_constant n k0 r42 σ) fun r46 => Option.bind (fm_X6_first y3 r46.2) fun r50 => Option.bind (fm_X6_value r50 r46.2) fun r54 => some (r46.2, r54))) fun r38 => Option.bind (fm_X6_setExtra y3 r38.2 r38.1) fun r58 => Option.bind (fm_X6_value y3 r58) fun r62 => Option.bind (fm_X6_place y3 r58) fun r66 => Option.bind (fm_X8_declare r62 3 r38.2 r66 r58) fun r70 => Option.bind (fm_X6_next y3 r70) fun r74 => lp_X8_part_23 n k0 m ((r38.2 + 1)) r74 r70)
/-- HomeCompiler$Checker.part(I)V -/
def fm_X8_part (n : Nat) (k0 : Nat) (x1 : Int32) (σ : hc_St) : Option hc_St := Option.bind (fm_X6_kind x1 σ) fun r1 => Option.bind (α := hc_St) (if r1 = 2 then (Option.bind (fm_X6_first x1 σ) fun r26 => Option.bind (lp_X8_part_23 n k0 n 0 r26 σ) fun r78 => some (r78)) else (Option.bind (fm_X6_kind x1 σ) fun r11 => if r11 = 6 then (hl (pI σ 8 11 ((-1))) fun σ21 => Option.bind (fm_X8_variables_2 n k0 x1 σ21) fun r22 => some (r22)) else (Option.bind (fm_X8_function n k0 x1 σ) fun r17 => some (r17)))) fun r7 => some r7
set_option maxRecDepth 20000 in
set_option maxHeartbeats 4000000 in
theorem ll_X8_part_23 {l : Launch} {E : hc_E} {A : Nat → Prop} {am : Nat → Nat → Nat} {d : Nat} {X : hc_X} (n : Nat) (k0 : Nat) (hD : 3 * k0 + 16 ≤ d) (hem : X.2.2.2.2.2.2.2.2.2.1.exceptionTable.isEmpty = true) {oc : hc_Oc} {σe : hc_St} (hC : hc_C hc_V0 E cX8_part 4 RX8 none d oc σe (l, A, am, [10, 11]) X) : ∀ (m : Nat) (σ : hc_St) (y2 : Int32) (y3 : Int32) (rl : hc_St), lp_X8_part_23 n k0 m y2 y3 σ = some rl → (∀ am1, hc_At hc_V0 E 4 X 115 [] [] rl am1 []) → ∀ am1, hc_At hc_V0 E 4 X 23 [(0, .ref (E.2.1 8)), (2, .int y2), (3, .int y3)] [] σ am1 [] := by
  have hd1 : 1 ≤ d := by omega
  have hd8 : 9 ≤ d := by omega
  have hd12 : 12 ≤ d := by omega
  intro m
  induction m with
  | zero =>
    intro σ y2 y3 rl h
    cases h
  | succ m ih =>
    intro σ y2 y3 rl h JX am1
    rw [lp_X8_part_23] at h
    refine hr_iload_n hC dX8_part_23 rfl ?_
    refine hr_iconst (v := (-1)) hC dX8_part_24 rfl ?_
    refine hr_icmp_eq (x := _) hC 115 dX8_part_25 (by decide) (fun c31 => ?_) (fun c31 => ?_)
    · rw [if_pos c31] at h
      obtain rfl := Option.some.inj h
      exact hr_sub _ rfl (JX am1)
    · rw [if_neg c31] at h
      refine hr_aload_n hC dX8_part_28 rfl ?_
      refine hr_gO 6 hC F8_0 rfl dX8_part_29 q661 ?_
      refine hr_iload_n hC dX8_part_32 rfl ?_
      obtain ⟨r32, e33, h⟩ := hx_bind h
      refine hs_callV0 hC 6 [_] _ dX8_part_33 q1575 q1576 q1577 q320 q1578 np_X6 rfl OB_6 pd_X6_first (Nat.le_of_ble_eq_true rfl) hd1 (okX6_first l E A (d - 1)  (by omega)  e33 am1) rfl ?_
      refine hr_iconst (v := (-1)) hC dX8_part_36 rfl ?_
      obtain ⟨r38, e39, h⟩ := hx_bind h
      have J40 : hc_At hc_V0 E 4 X 69 [(0, .ref (E.2.1 8)), (2, .int r38.2), (3, .int y3)] [] r38.1 am1 [] := by
        refine hr_aload_n hC dX8_part_69 rfl ?_
        refine hr_gO 6 hC F8_0 rfl dX8_part_70 q661 ?_
        refine hr_iload_n hC dX8_part_73 rfl ?_
        refine hr_iload_n hC dX8_part_74 rfl ?_
        obtain ⟨r58, e59, h⟩ := hx_bind h
        refine hs_callV0 hC 6 [_, _] _ dX8_part_75 q1601 q1463 q1464 q320 q1465 np_X6 rfl OB_6 pd_X6_setExtra (Nat.le_of_ble_eq_true rfl) hd1 (okX6_setExtra l E A (d - 1)  (by omega)  e59 am1) rfl ?_
        refine hr_aload_n hC dX8_part_78 rfl ?_
        refine hr_aload_n hC dX8_part_79 rfl ?_
        refine hr_gO 6 hC F8_0 rfl dX8_part_80 q661 ?_
        refine hr_iload_n hC dX8_part_83 rfl ?_
        obtain ⟨r62, e63, h⟩ := hx_bind h
        refine hs_callV0 hC 6 [_] _ dX8_part_84 q1585 q1586 q1587 q320 q1588 np_X6 rfl OB_6 pd_X6_value (Nat.le_of_ble_eq_true rfl) hd1 (okX6_value l E A (d - 1)  (by omega)  e63 am1) rfl ?_
        refine hr_iconst (v := 3) hC dX8_part_87 rfl ?_
        refine hr_iload_n hC dX8_part_88 rfl ?_
        refine hr_aload_n hC dX8_part_89 rfl ?_
        refine hr_gO 6 hC F8_0 rfl dX8_part_90 q661 ?_
        refine hr_iload_n hC dX8_part_93 rfl ?_
        obtain ⟨r66, e67, h⟩ := hx_bind h
        refine hs_callV0 hC 6 [_] _ dX8_part_94 q1593 q1594 q1595 q320 q1596 np_X6 rfl OB_6 pd_X6_place (Nat.le_of_ble_eq_true rfl) hd1 (okX6_place l E A (d - 1)  (by omega)  e67 am1) rfl ?_
        obtain ⟨r70, e71, h⟩ := hx_bind h
        refine hs_callV hC 8 [_, _, _, _] _ dX8_part_97 q1726 q1728 qs75 q322 q1729 np_X8 rfl OB_8 pd_X8_declare (Nat.le_of_ble_eq_true rfl) hd1 (okX8_declare l E A (d - 1)  (by omega)  e71 am1) (hc_rb rfl) rfl (fun am72 ha73 => ?_)
        refine hr_iinc (v := r38.2 + 1) hC dX8_part_100 rfl rfl (by decide) ?_
        refine hr_aload_n hC dX8_part_103 rfl ?_
        refine hr_gO 6 hC F8_0 rfl dX8_part_104 q661 ?_
        refine hr_iload_n hC dX8_part_107 rfl ?_
        obtain ⟨r74, e75, h⟩ := hx_bind h
        refine hs_callV0 hC 6 [_] _ dX8_part_108 q1602 q1603 q1604 q320 q1605 np_X6 rfl OB_6 pd_X6_next (Nat.le_of_ble_eq_true rfl) hd1 (okX6_next l E A (d - 1)  (by omega)  e75 am72) rfl ?_
        refine hr_istore_n hC dX8_part_111 (by decide) ?_
        refine hr_goto hC 23 dX8_part_112 (by decide) ?_
        exact hr_sub _ rfl (ih _ _ _ _ h JX am72)
      clear h
      have h := e39
      refine hr_icmp_eq (x := _) hC 69 dX8_part_37 (by decide) (fun c37 => ?_) (fun c37 => ?_)
      · rw [if_pos c37] at h
        obtain rfl := Option.some.inj h
        exact hr_sub _ rfl (J40)
      · rw [if_neg c37] at h
        refine hr_aload_n hC dX8_part_40 rfl ?_
        refine hr_aload_n hC dX8_part_41 rfl ?_
        refine hr_gO 6 hC F8_0 rfl dX8_part_42 q661 ?_
        refine hr_iload_n hC dX8_part_45 rfl ?_
        obtain ⟨r42, e43, h⟩ := hx_bind h
        refine hs_callV0 hC 6 [_] _ dX8_part_46 q1575 q1576 q1577 q320 q1578 np_X6 rfl OB_6 pd_X6_first (Nat.le_of_ble_eq_true rfl) hd1 (okX6_first l E A (d - 1)  (by omega)  e43 am1) rfl ?_
        obtain ⟨r46, e47, h⟩ := hx_bind h
        refine hs_callV0 hC 8 [_] _ dX8_part_49 q1610 q1612 qs58 q322 q1613 np_X8 rfl OB_8 pd_X8_constant (Nat.le_of_ble_eq_true rfl) hd1 (okX8_constant l E A (d - 1) n k0 (by omega)  e47 am1) rfl ?_
        refine hr_pop hC dX8_part_52 rfl ?_
        refine hr_aload_n hC dX8_part_53 rfl ?_
        refine hr_gO 6 hC F8_0 rfl dX8_part_54 q661 ?_
        refine hr_aload_n hC dX8_part_57 rfl ?_
        refine hr_gO 6 hC F8_0 rfl dX8_part_58 q661 ?_
        refine hr_iload_n hC dX8_part_61 rfl ?_
        obtain ⟨r50, e51, h⟩ := hx_bind h
        refine hs_callV0 hC 6 [_] _ dX8_part_62 q1575 q1576 q1577 q320 q1578 np_X6 rfl OB_6 pd_X6_first (Nat.le_of_ble_eq_true rfl) hd1 (okX6_first l E A (d - 1)  (by omega)  e51 am1) rfl ?_
        obtain ⟨r54, e55, h⟩ := hx_bind h
        refine hs_callV0 hC 6 [_] _ dX8_part_65 q1585 q1586 q1587 q320 q1588 np_X6 rfl OB_6 pd_X6_value (Nat.le_of_ble_eq_true rfl) hd1 (okX6_value l E A (d - 1)  (by omega)  e55 am1) rfl ?_
        refine hr_istore_n hC dX8_part_68 (by decide) ?_
        obtain rfl := Option.some.inj h
        exact hr_sub _ rfl (J40)
set_option maxRecDepth 20000 in
set_option maxHeartbeats 4000000 in
theorem okX8_part (l : Launch) (E : hc_E) (A : Nat → Prop) (d : Nat) (n : Nat) (k0 : Nat) (hD : 3 * k0 + 16 ≤ d) {x1 : Int32} {σ : hc_St} {r : hc_St} (h : fm_X8_part n k0 x1 σ = some r) (am : Nat → Nat → Nat) : hc_M l hc_V0 yX8_part (ws_ yX8_part cX8_part 4 none) d E A [.ref (E.2.1 8), .int x1] am [10, 11] σ (.inl none) r := by
  have hd1 : 1 ≤ d := by omega
  have hd8 : 9 ≤ d := by omega
  have hd12 : 12 ≤ d := by omega
  refine hc_enter2 (own := RX8) [(0, .ref (E.2.1 8)), (1, .int x1)] pl_X8 rfl hc_V0_st hc_G0_nd rfl (Nat.le_of_ble_eq_true rfl) (fun X hC hem => ?_)
  unfold fm_X8_part at h
  refine hr_aload_n hC dX8_part_0 rfl ?_
  refine hr_gO 6 hC F8_0 rfl dX8_part_1 q661 ?_
  refine hr_iload_n hC dX8_part_4 rfl ?_
  obtain ⟨r1, e2, h⟩ := hx_bind h
  refine hs_callV0 hC 6 [_] _ dX8_part_5 q1579 q1369 q1370 q320 q1371 np_X6 rfl OB_6 pd_X6_kind (Nat.le_of_ble_eq_true rfl) hd1 (okX6_kind l E A (d - 1)  (by omega)  e2 am) rfl ?_
  refine hr_iconst (v := 2) hC dX8_part_8 rfl ?_
  obtain ⟨r7, e8, h⟩ := hx_bind h
  have J9 : ∀ am83, hc_At hc_V0 E 4 X 149 [] [] r7 am83 [] := by
    intro am83
    obtain rfl := Option.some.inj h
    exact hr_vret hC dX8_part_149
  clear h
  have h := e8
  refine hr_icmp_ne (x := _) hC 118 dX8_part_9 (by decide) (fun c6 => ?_) (fun c6 => ?_)
  · rw [if_neg c6] at h
    refine hr_aload_n hC dX8_part_118 rfl ?_
    refine hr_gO 6 hC F8_0 rfl dX8_part_119 q661 ?_
    refine hr_iload_n hC dX8_part_122 rfl ?_
    obtain ⟨r11, e12, h⟩ := hx_bind h
    refine hs_callV0 hC 6 [_] _ dX8_part_123 q1579 q1369 q1370 q320 q1371 np_X6 rfl OB_6 pd_X6_kind (Nat.le_of_ble_eq_true rfl) hd1 (okX6_kind l E A (d - 1)  (by omega)  e12 am) rfl ?_
    refine hr_bipush (v := 6) hC dX8_part_126 rfl ?_
    refine hr_icmp_ne (x := _) hC 144 dX8_part_128 (by decide) (fun c16 => ?_) (fun c16 => ?_)
    · rw [if_neg c16] at h
      refine hr_aload_n hC dX8_part_144 rfl ?_
      refine hr_iload_n hC dX8_part_145 rfl ?_
      obtain ⟨r17, e18, h⟩ := hx_bind h
      refine hs_callV hC 8 [_] _ dX8_part_146 q1764 q1766 qs81 q322 q1767 np_X8 rfl OB_8 pd_X8_function (Nat.le_of_ble_eq_true rfl) hd1 (okX8_function l E A (d - 1) n k0 (by omega)  e18 am) (hc_rb rfl) rfl (fun am19 ha20 => ?_)
      obtain rfl := Option.some.inj h
      exact hr_sub _ rfl (J9 am19)
    · rw [if_pos c16] at h
      refine hr_aload_n hC dX8_part_131 rfl ?_
      refine hr_iconst (v := (-1)) hC dX8_part_132 rfl ?_
      obtain ⟨σ21, hσ21, h⟩ := hl_ok h
      refine hr_pI hC F8_11 PX8_11 dX8_part_133 q672 ?_
      rw [← hσ21]
      refine hr_aload_n hC dX8_part_136 rfl ?_
      refine hr_iload_n hC dX8_part_137 rfl ?_
      obtain ⟨r22, e23, h⟩ := hx_bind h
      refine hs_callV hC 8 [_] _ dX8_part_138 q1730 q1732 qs76 q322 q1733 np_X8 rfl OB_8 pd_X8_variables_2 (Nat.le_of_ble_eq_true rfl) hd1 (okX8_variables_2 l E A (d - 1) n k0 (by omega)  e23 am) (hc_rb rfl) rfl (fun am24 ha25 => ?_)
      refine hr_goto hC 149 dX8_part_141 (by decide) ?_
      obtain rfl := Option.some.inj h
      exact hr_sub _ rfl (J9 am24)
  · rw [if_pos c6] at h
    refine hr_iconst (v := 0) hC dX8_part_12 rfl ?_
    refine hr_istore_n hC dX8_part_13 (by decide) ?_
    refine hr_aload_n hC dX8_part_14 rfl ?_
    refine hr_gO 6 hC F8_0 rfl dX8_part_15 q661 ?_
    refine hr_iload_n hC dX8_part_18 rfl ?_
    obtain ⟨r26, e27, h⟩ := hx_bind h
    refine hs_callV0 hC 6 [_] _ dX8_part_19 q1575 q1576 q1577 q320 q1578 np_X6 rfl OB_6 pd_X6_first (Nat.le_of_ble_eq_true rfl) hd1 (okX6_first l E A (d - 1)  (by omega)  e27 am) rfl ?_
    refine hr_istore_n hC dX8_part_22 (by decide) ?_
    obtain ⟨r78, e79, h⟩ := hx_bind h
    refine hr_sub _ rfl (ll_X8_part_23 n k0 hD hem hC n _ _ _ _ e79 (fun am82 => ?_) am)
    refine hr_goto hC 149 dX8_part_115 (by decide) ?_
    obtain rfl := Option.some.inj h
    exact hr_sub _ rfl (J9 am82)
/-- HomeCompiler$Wrong.number()I -/
def fm_X9_number   (σ : hc_St) : Option Int32 := some ((gI σ 9 0))
set_option maxRecDepth 20000 in
set_option maxHeartbeats 4000000 in
theorem okX9_number (l : Launch) (E : hc_E) (A : Nat → Prop) (d : Nat)  (hD : 1 ≤ d)  {σ : hc_St} {r : Int32} (h : fm_X9_number   σ = some r) (am : Nat → Nat → Nat) : hc_M l hc_V0 yX9_number (ws_ yX9_number cX9_number 1 (some .int)) d E A [.ref (E.2.1 9)] am [] σ (.inl (some (.int r))) σ := by
  have hd1 : 1 ≤ d := by omega
  refine hc_enter2 (own := RX9) [(0, .ref (E.2.1 9))] pl_X9 rfl hc_V0_st hc_G0_nd rfl (Nat.le_of_ble_eq_true rfl) (fun X hC hem => ?_)
  unfold fm_X9_number at h
  refine hr_aload_n hC dX9_number_0 rfl ?_
  refine hr_gI hC F9_0 dX9_number_1 q596 ?_
  obtain rfl := Option.some.inj h
  exact hr_iret hC dX9_number_4
/-- HomeCompiler$Checker.isMain(I)Z -/
def fm_X8_isMain (n : Nat) (x1 : Int32) (σ : hc_St) : Option (Int32 × hc_St) := Option.bind (fm_X6_first x1 σ) fun r1 => Option.bind (fm_X6_kind r1 σ) fun r5 => Option.bind (α := Int32) (if r5 = 5 then (Option.bind (fm_X6_op r1 σ) fun r15 => if r15 = 0 then (Option.bind (fm_X6_extra r1 σ) fun r21 => if r21 = (-1) then (Option.bind (fm_X6_next r1 σ) fun r27 => Option.bind (fm_X6_kind r27 σ) fun r31 => if r31 = 10 then (some (1)) else (some (0))) else (some (0))) else (some (0))) else (some (0))) fun r11 => Option.bind (α := hc_St × Int32) (if r11 = 0 then (some (σ, 0)) else (Option.bind (fm_X6_op x1 σ) fun r43 => if r43 = 0 then (Option.bind (fm_X8_nameOf n 142 σ) fun r49 => Option.bind (fm_X6_value x1 r49.2) fun r53 => if r49.1 = r53 then (some (r49.2, 1)) else (some (r49.2, 0))) else (some (σ, 0)))) fun r39 => hk (hb01 r39.2) <| some (r39.2, r39.1)
set_option maxRecDepth 20000 in
set_option maxHeartbeats 4000000 in
theorem okX8_isMain (l : Launch) (E : hc_E) (A : Nat → Prop) (d : Nat) (n : Nat) (hD : 10 ≤ d) {x1 : Int32} {σ : hc_St} {r : (Int32 × hc_St)} (h : fm_X8_isMain n x1 σ = some r) (am : Nat → Nat → Nat) : hc_M l hc_V0 yX8_isMain (ws_ yX8_isMain cX8_isMain 4 (some .boolean)) d E A [.ref (E.2.1 8), .int x1] am [2, 3, 4, 12, 22] σ (.inl (some (.int r.1))) r.2 := by
  have hd1 : 1 ≤ d := by omega
  have hd8 : 9 ≤ d := by omega
  refine hc_enter2 (own := RX8) [(0, .ref (E.2.1 8)), (1, .int x1)] pl_X8 rfl hc_V0_st hc_G0_nd rfl (Nat.le_of_ble_eq_true rfl) (fun X hC hem => ?_)
  unfold fm_X8_isMain at h
  refine hr_aload_n hC dX8_isMain_0 rfl ?_
  refine hr_gO 6 hC F8_0 rfl dX8_isMain_1 q661 ?_
  refine hr_iload_n hC dX8_isMain_4 rfl ?_
  obtain ⟨r1, e2, h⟩ := hx_bind h
  refine hs_callV0 hC 6 [_] _ dX8_isMain_5 q1575 q1576 q1577 q320 q1578 np_X6 rfl OB_6 pd_X6_first (Nat.le_of_ble_eq_true rfl) hd1 (okX6_first l E A (d - 1)  (by omega)  e2 am) rfl ?_
  refine hr_istore_n hC dX8_isMain_8 (by decide) ?_
  refine hr_aload_n hC dX8_isMain_9 rfl ?_
  refine hr_gO 6 hC F8_0 rfl dX8_isMain_10 q661 ?_
  refine hr_iload_n hC dX8_isMain_13 rfl ?_
  obtain ⟨r5, e6, h⟩ := hx_bind h
  refine hs_callV0 hC 6 [_] _ dX8_isMain_14 q1579 q1369 q1370 q320 q1371 np_X6 rfl OB_6 pd_X6_kind (Nat.le_of_ble_eq_true rfl) hd1 (okX6_kind l E A (d - 1)  (by omega)  e6 am) rfl ?_
  refine hr_iconst (v := 5) hC dX8_isMain_17 rfl ?_
  obtain ⟨r11, e12, h⟩ := hx_bind h
  have J13 : hc_At hc_V0 E 4 X 69 [(0, .ref (E.2.1 8)), (1, .int x1)] [.int r11] σ am [] := by
    refine hr_istore_n hC dX8_isMain_69 (by decide) ?_
    refine hr_iload_n hC dX8_isMain_70 rfl ?_
    obtain ⟨r39, e40, h⟩ := hx_bind h
    have J41 : ∀ am59, hc_At hc_V0 E 4 X 107 [] [.int r39.2] r39.1 am59 [] := by
      intro am59
      obtain ⟨c60, h⟩ := hk_ok h
      obtain rfl := Option.some.inj h
      exact hr_zret hC (hb01_n c60) dX8_isMain_107
    clear h
    have h := e40
    refine hr_if_eq (x := _) hC 106 dX8_isMain_71 (by decide) (fun c38 => ?_) (fun c38 => ?_)
    · rw [if_pos c38] at h
      refine hr_iconst (v := 0) hC dX8_isMain_106 rfl ?_
      obtain rfl := Option.some.inj h
      exact hr_sub _ rfl (J41 am)
    · rw [if_neg c38] at h
      refine hr_aload_n hC dX8_isMain_74 rfl ?_
      refine hr_gO 6 hC F8_0 rfl dX8_isMain_75 q661 ?_
      refine hr_iload_n hC dX8_isMain_78 rfl ?_
      obtain ⟨r43, e44, h⟩ := hx_bind h
      refine hs_callV0 hC 6 [_] _ dX8_isMain_79 q1638 q1639 q1640 q320 q1641 np_X6 rfl OB_6 pd_X6_op (Nat.le_of_ble_eq_true rfl) hd1 (okX6_op l E A (d - 1)  (by omega)  e44 am) rfl ?_
      refine hr_if_ne (x := _) hC 106 dX8_isMain_82 (by decide) (fun c48 => ?_) (fun c48 => ?_)
      · rw [if_neg c48] at h
        refine hr_iconst (v := 0) hC dX8_isMain_106 rfl ?_
        obtain rfl := Option.some.inj h
        exact hr_sub _ rfl (J41 am)
      · rw [if_pos c48] at h
        refine hr_aload_n hC dX8_isMain_85 rfl ?_
        refine hr_ldcs (v := 142) 142 hC dX8_isMain_86 (List.mem_of_getElem? (i := 142) rfl) (by decide) rfl ?_
        obtain ⟨r49, e50, h⟩ := hx_bind h
        refine hs_callV hC 8 [_] _ dX8_isMain_88 q1557 q1559 qs55 q322 q1560 np_X8 rfl OB_8 pd_X8_nameOf (Nat.le_of_ble_eq_true rfl) hd1 (okX8_nameOf l E A (d - 1) n (by omega)  e50 am) (hc_rb rfl) rfl (fun am51 ha52 => ?_)
        refine hr_aload_n hC dX8_isMain_91 rfl ?_
        refine hr_gO 6 hC F8_0 rfl dX8_isMain_92 q661 ?_
        refine hr_iload_n hC dX8_isMain_95 rfl ?_
        obtain ⟨r53, e54, h⟩ := hx_bind h
        refine hs_callV0 hC 6 [_] _ dX8_isMain_96 q1585 q1586 q1587 q320 q1588 np_X6 rfl OB_6 pd_X6_value (Nat.le_of_ble_eq_true rfl) hd1 (okX6_value l E A (d - 1)  (by omega)  e54 am51) rfl ?_
        refine hr_icmp_ne (x := _) hC 106 dX8_isMain_99 (by decide) (fun c58 => ?_) (fun c58 => ?_)
        · rw [if_neg c58] at h
          refine hr_iconst (v := 0) hC dX8_isMain_106 rfl ?_
          obtain rfl := Option.some.inj h
          exact hr_sub _ rfl (J41 am51)
        · rw [if_pos c58] at h
          refine hr_iconst (v := 1) hC dX8_isMain_102 rfl ?_
          refine hr_goto hC 107 dX8_isMain_103 (by decide) ?_
          obtain rfl := Option.some.inj h
          exact hr_sub _ rfl (J41 am51)
  clear h
  have h := e12
  refine hr_icmp_ne (x := _) hC 68 dX8_isMain_18 (by decide) (fun c10 => ?_) (fun c10 => ?_)
  · rw [if_neg c10] at h
    refine hr_iconst (v := 0) hC dX8_isMain_68 rfl ?_
    obtain rfl := Option.some.inj h
    exact hr_sub _ rfl (J13)
  · rw [if_pos c10] at h
    refine hr_aload_n hC dX8_isMain_21 rfl ?_
    refine hr_gO 6 hC F8_0 rfl dX8_isMain_22 q661 ?_
    refine hr_iload_n hC dX8_isMain_25 rfl ?_
    obtain ⟨r15, e16, h⟩ := hx_bind h
    refine hs_callV0 hC 6 [_] _ dX8_isMain_26 q1638 q1639 q1640 q320 q1641 np_X6 rfl OB_6 pd_X6_op (Nat.le_of_ble_eq_true rfl) hd1 (okX6_op l E A (d - 1)  (by omega)  e16 am) rfl ?_
    refine hr_if_ne (x := _) hC 68 dX8_isMain_29 (by decide) (fun c20 => ?_) (fun c20 => ?_)
    · rw [if_neg c20] at h
      refine hr_iconst (v := 0) hC dX8_isMain_68 rfl ?_
      obtain rfl := Option.some.inj h
      exact hr_sub _ rfl (J13)
    · rw [if_pos c20] at h
      refine hr_aload_n hC dX8_isMain_32 rfl ?_
      refine hr_gO 6 hC F8_0 rfl dX8_isMain_33 q661 ?_
      refine hr_iload_n hC dX8_isMain_36 rfl ?_
      obtain ⟨r21, e22, h⟩ := hx_bind h
      refine hs_callV0 hC 6 [_] _ dX8_isMain_37 q1686 q1687 q1688 q320 q1689 np_X6 rfl OB_6 pd_X6_extra (Nat.le_of_ble_eq_true rfl) hd1 (okX6_extra l E A (d - 1)  (by omega)  e22 am) rfl ?_
      refine hr_iconst (v := (-1)) hC dX8_isMain_40 rfl ?_
      refine hr_icmp_ne (x := _) hC 68 dX8_isMain_41 (by decide) (fun c26 => ?_) (fun c26 => ?_)
      · rw [if_neg c26] at h
        refine hr_iconst (v := 0) hC dX8_isMain_68 rfl ?_
        obtain rfl := Option.some.inj h
        exact hr_sub _ rfl (J13)
      · rw [if_pos c26] at h
        refine hr_aload_n hC dX8_isMain_44 rfl ?_
        refine hr_gO 6 hC F8_0 rfl dX8_isMain_45 q661 ?_
        refine hr_aload_n hC dX8_isMain_48 rfl ?_
        refine hr_gO 6 hC F8_0 rfl dX8_isMain_49 q661 ?_
        refine hr_iload_n hC dX8_isMain_52 rfl ?_
        obtain ⟨r27, e28, h⟩ := hx_bind h
        refine hs_callV0 hC 6 [_] _ dX8_isMain_53 q1602 q1603 q1604 q320 q1605 np_X6 rfl OB_6 pd_X6_next (Nat.le_of_ble_eq_true rfl) hd1 (okX6_next l E A (d - 1)  (by omega)  e28 am) rfl ?_
        obtain ⟨r31, e32, h⟩ := hx_bind h
        refine hs_callV0 hC 6 [_] _ dX8_isMain_56 q1579 q1369 q1370 q320 q1371 np_X6 rfl OB_6 pd_X6_kind (Nat.le_of_ble_eq_true rfl) hd1 (okX6_kind l E A (d - 1)  (by omega)  e32 am) rfl ?_
        refine hr_bipush (v := 10) hC dX8_isMain_59 rfl ?_
        refine hr_icmp_ne (x := _) hC 68 dX8_isMain_61 (by decide) (fun c36 => ?_) (fun c36 => ?_)
        · rw [if_neg c36] at h
          refine hr_iconst (v := 0) hC dX8_isMain_68 rfl ?_
          obtain rfl := Option.some.inj h
          exact hr_sub _ rfl (J13)
        · rw [if_pos c36] at h
          refine hr_iconst (v := 1) hC dX8_isMain_64 rfl ?_
          refine hr_goto hC 69 dX8_isMain_65 (by decide) ?_
          obtain rfl := Option.some.inj h
          exact hr_sub _ rfl (J13)
/-- HomeCompiler$Variables.wordsOf(I)I -/
def fm_X11_wordsOf  (x1 : Int32) (σ : hc_St) : Option Int32 := Option.bind (α := Int32) (if x1 = (-1) then (some ((gI σ 11 5))) else (if (nI (gL σ 11 4)) ≤ x1 then (some (0)) else (hk (inb x1 (gL σ 11 4)) <| some ((gC σ 11 4 x1))))) fun r3 => some r3
set_option maxRecDepth 20000 in
set_option maxHeartbeats 4000000 in
theorem okX11_wordsOf (l : Launch) (E : hc_E) (A : Nat → Prop) (d : Nat)  (hD : 1 ≤ d) {x1 : Int32} {σ : hc_St} {r : Int32} (h : fm_X11_wordsOf  x1 σ = some r) (am : Nat → Nat → Nat) : hc_M l hc_V0 yX11_wordsOf (ws_ yX11_wordsOf cX11_wordsOf 2 (some .int)) d E A [.ref (E.2.1 11), .int x1] am [] σ (.inl (some (.int r))) σ := by
  have hd1 : 1 ≤ d := by omega
  refine hc_enter2 (own := RX11) [(0, .ref (E.2.1 11)), (1, .int x1)] pl_X11 rfl hc_V0_st hc_G0_nd rfl (Nat.le_of_ble_eq_true rfl) (fun X hC hem => ?_)
  unfold fm_X11_wordsOf at h
  refine hr_iload_n hC dX11_wordsOf_0 rfl ?_
  refine hr_iconst (v := (-1)) hC dX11_wordsOf_1 rfl ?_
  obtain ⟨r3, e4, h⟩ := hx_bind h
  have J5 : hc_At hc_V0 E 2 X 31 [] [.int r3] σ am [] := by
    obtain rfl := Option.some.inj h
    exact hr_iret hC dX11_wordsOf_31
  clear h
  have h := e4
  refine hr_icmp_ne (x := _) hC 12 dX11_wordsOf_2 (by decide) (fun c2 => ?_) (fun c2 => ?_)
  · rw [if_neg c2] at h
    refine hr_iload_n hC dX11_wordsOf_12 rfl ?_
    refine hr_aload_n hC dX11_wordsOf_13 rfl ?_
    refine hr_gA hC F11_4 rfl dX11_wordsOf_14 q644 ?_
    refine hs_alen1 hC A11_4 dX11_wordsOf_17 ?_
    refine hr_icmp_ge (x := _) hC 30 dX11_wordsOf_18 (by decide) (fun c8 => ?_) (fun c8 => ?_)
    · rw [if_pos c8] at h
      refine hr_iconst (v := 0) hC dX11_wordsOf_30 rfl ?_
      obtain rfl := Option.some.inj h
      exact hr_sub _ rfl (J5)
    · rw [if_neg c8] at h
      refine hr_aload_n hC dX11_wordsOf_21 rfl ?_
      refine hr_gA hC F11_4 rfl dX11_wordsOf_22 q644 ?_
      refine hr_iload_n hC dX11_wordsOf_25 rfl ?_
      obtain ⟨c9, h⟩ := hk_ok h
      refine hs_iald hC A11_4 c9 dX11_wordsOf_26 ?_
      refine hr_goto hC 31 dX11_wordsOf_27 (by decide) ?_
      obtain rfl := Option.some.inj h
      exact hr_sub _ rfl (J5)
  · rw [if_pos c2] at h
    refine hr_aload_n hC dX11_wordsOf_5 rfl ?_
    refine hr_gI hC F11_5 dX11_wordsOf_6 q645 ?_
    refine hr_goto hC 31 dX11_wordsOf_9 (by decide) ?_
    obtain rfl := Option.some.inj h
    exact hr_sub _ rfl (J5)
/-- HomeCompiler$Checker.frame(I)I -/
def fm_X8_frame  (x1 : Int32) (σ : hc_St) : Option Int32 := Option.bind (fm_X11_wordsOf x1 σ) fun r1 => hk (inb x1 (gL σ 8 8)) <| some ((((4 + r1)) + ((gC σ 8 8 x1))))
set_option maxRecDepth 20000 in
set_option maxHeartbeats 4000000 in
theorem okX8_frame (l : Launch) (E : hc_E) (A : Nat → Prop) (d : Nat)  (hD : 2 ≤ d) {x1 : Int32} {σ : hc_St} {r : Int32} (h : fm_X8_frame  x1 σ = some r) (am : Nat → Nat → Nat) : hc_M l hc_V0 yX8_frame (ws_ yX8_frame cX8_frame 2 (some .int)) d E A [.ref (E.2.1 8), .int x1] am [] σ (.inl (some (.int r))) σ := by
  have hd1 : 1 ≤ d := by omega
  refine hc_enter2 (own := RX8) [(0, .ref (E.2.1 8)), (1, .int x1)] pl_X8 rfl hc_V0_st hc_G0_nd rfl (Nat.le_of_ble_eq_true rfl) (fun X hC hem => ?_)
  unfold fm_X8_frame at h
  refine hr_iconst (v := 4) hC dX8_frame_0 rfl ?_
  refine hr_aload_n hC dX8_frame_1 rfl ?_
  refine hr_gO 11 hC F8_5 rfl dX8_frame_2 q666 ?_
  refine hr_iload_n hC dX8_frame_5 rfl ?_
  obtain ⟨r1, e2, h⟩ := hx_bind h
  refine hs_callV0 hC 11 [_] _ dX8_frame_6 q1840 q1841 q1842 q325 q1843 np_X11 rfl OB_11 pd_X11_wordsOf (Nat.le_of_ble_eq_true rfl) hd1 (okX11_wordsOf l E A (d - 1)  (by omega)  e2 am) rfl ?_
  refine hr_iadd hC dX8_frame_9 ?_
  refine hr_aload_n hC dX8_frame_10 rfl ?_
  refine hr_gA hC F8_8 rfl dX8_frame_11 q669 ?_
  refine hr_iload_n hC dX8_frame_14 rfl ?_
  obtain ⟨c5, h⟩ := hk_ok h
  refine hs_iald hC A8_8 c5 dX8_frame_15 ?_
  refine hr_iadd hC dX8_frame_16 ?_
  obtain rfl := Option.some.inj h
  exact hr_iret hC dX8_frame_17
def lp_X8_whole_7 (n : Nat) : Nat → Int32 → Int32 → Int32 → Int32 → hc_St → Option (hc_St × Int32 × Int32)
  | 0, _, _, _, _, _ => none
  | m + 1, y1, y2, y3, y4, σ => if (gI σ 8 9) ≤ y4 then (some (σ, y2, y3)) else (hk (inb y4 (gL σ 8 7)) <| Option.bind (fm_X8_isMain n ((gC σ 8 7 y4)) σ) fun r4 => Option.bind (fm_X8_frame y4 r4.2) fun r8 => hl (α := Int32) ((if r8 ≤ 8192 then 0 else 1)) fun v14 => lp_X8_whole_7 n m y1 ((y2 ||| r4.1)) ((y3 ||| v14)) ((y4 + 1)) r4.2)
/-- HomeCompiler$Checker.whole(I)V -/
def fm_X8_whole (n : Nat) (x1 : Int32) (σ : hc_St) : Option hc_St := Option.bind (lp_X8_whole_7 n n x1 0 0 0 σ) fun r18 => Option.bind (α := hc_St) (if r18.2.1 = 0 then (Option.bind (fm_X9_say 12 x1 r18.1) fun r29 => some (r29)) else (some (r18.1))) fun r25 => Option.bind (α := hc_St) (if r18.2.2 = 0 then (some (r25)) else (Option.bind (fm_X9_say 13 x1 r25) fun r39 => some (r39))) fun r35 => Option.bind (α := hc_St) (if 200 < (gI r35 8 9) then (Option.bind (fm_X9_say 14 x1 r35) fun r49 => some (r49)) else (Option.bind (fm_X11_wordsOf ((-1)) r35) fun r53 => if r53 ≤ 8192 then (some (r35)) else (Option.bind (fm_X9_say 14 x1 r35) fun r59 => some (r59)))) fun r45 => some r45
set_option maxRecDepth 20000 in
set_option maxHeartbeats 4000000 in
theorem ll_X8_whole_7 {l : Launch} {E : hc_E} {A : Nat → Prop} {am : Nat → Nat → Nat} {d : Nat} {X : hc_X} (n : Nat) (hD : 11 ≤ d) (hem : X.2.2.2.2.2.2.2.2.2.1.exceptionTable.isEmpty = true) {oc : hc_Oc} {σe : hc_St} (hC : hc_C hc_V0 E cX8_whole 5 RX8 none d oc σe (l, A, am, [2, 3, 4, 12, 22]) X) : ∀ (m : Nat) (σ : hc_St) (y1 : Int32) (y2 : Int32) (y3 : Int32) (y4 : Int32) (rl : hc_St × Int32 × Int32), lp_X8_whole_7 n m y1 y2 y3 y4 σ = some rl → (∀ am1, hc_At hc_V0 E 5 X 56 [(0, .ref (E.2.1 8)), (1, .int y1), (2, .int rl.2.1), (3, .int rl.2.2)] [] rl.1 am1 []) → ∀ am1, hc_At hc_V0 E 5 X 7 [(0, .ref (E.2.1 8)), (1, .int y1), (2, .int y2), (3, .int y3), (4, .int y4)] [] σ am1 [] := by
  have hd1 : 1 ≤ d := by omega
  have hd8 : 9 ≤ d := by omega
  intro m
  induction m with
  | zero =>
    intro σ y1 y2 y3 y4 rl h
    cases h
  | succ m ih =>
    intro σ y1 y2 y3 y4 rl h JX am1
    rw [lp_X8_whole_7] at h
    refine hr_iload hC dX8_whole_7 rfl ?_
    refine hr_aload_n hC dX8_whole_9 rfl ?_
    refine hr_gI hC F8_9 dX8_whole_10 q670 ?_
    refine hr_icmp_ge (x := _) hC 56 dX8_whole_13 (by decide) (fun c2 => ?_) (fun c2 => ?_)
    · rw [if_pos c2] at h
      obtain rfl := Option.some.inj h
      exact hr_sub _ rfl (JX am1)
    · rw [if_neg c2] at h
      refine hr_iload_n hC dX8_whole_16 rfl ?_
      refine hr_aload_n hC dX8_whole_17 rfl ?_
      refine hr_aload_n hC dX8_whole_18 rfl ?_
      refine hr_gA hC F8_7 rfl dX8_whole_19 q668 ?_
      refine hr_iload hC dX8_whole_22 rfl ?_
      obtain ⟨c3, h⟩ := hk_ok h
      refine hs_iald hC A8_7 c3 dX8_whole_24 ?_
      obtain ⟨r4, e5, h⟩ := hx_bind h
      refine hs_callV hC 8 [_] _ dX8_whole_25 q1831 q1833 qs94 q322 q1834 np_X8 rfl OB_8 pd_X8_isMain (Nat.le_of_ble_eq_true rfl) hd1 (okX8_isMain l E A (d - 1) n (by omega)  e5 am1) (hc_rb rfl) rfl (fun am6 ha7 => ?_)
      refine hr_ior hC dX8_whole_28 ?_
      refine hr_istore_n hC dX8_whole_29 (by decide) ?_
      refine hr_iload_n hC dX8_whole_30 rfl ?_
      refine hr_aload_n hC dX8_whole_31 rfl ?_
      refine hr_iload hC dX8_whole_32 rfl ?_
      obtain ⟨r8, e9, h⟩ := hx_bind h
      refine hs_callV0 hC 8 [_] _ dX8_whole_34 q1836 q1837 q1838 q322 q1839 np_X8 rfl OB_8 pd_X8_frame (Nat.le_of_ble_eq_true rfl) hd1 (okX8_frame l E A (d - 1)  (by omega)  e9 am6) rfl ?_
      refine hr_sipush (v := 8192) hC dX8_whole_37 rfl ?_
      obtain ⟨v14, hv14, h⟩ := hl_ok h
      have J15 : ∀ w16 : Int32, (if r8 ≤ 8192 then 0 else 1) = w16 → hc_At hc_V0 E 5 X 48 [(0, .ref (E.2.1 8)), (1, .int y1), (2, .int (y2 ||| r4.1)), (4, .int y4)] [.int w16, .int y3] r4.2 am6 [] := by
        intro w16 hw16
        obtain rfl := hv14.trans hw16
        refine hr_ior hC dX8_whole_48 ?_
        refine hr_istore_n hC dX8_whole_49 (by decide) ?_
        refine hr_iinc (v := y4 + 1) hC dX8_whole_50 rfl rfl (by decide) ?_
        refine hr_goto hC 7 dX8_whole_53 (by decide) ?_
        exact hr_sub _ rfl (ih _ _ _ _ _ _ h JX am6)
      refine hr_icmp_le (x := _) hC 47 dX8_whole_40 (by decide) (fun c17 => ?_) (fun c17 => ?_)
      · refine hr_iconst (v := 0) hC dX8_whole_47 rfl ?_
        exact hr_sub _ rfl (J15 _ (by first | (rw [if_pos c17]; done) | (simp only [if_pos c17]; done) | rfl))
      · refine hr_iconst (v := 1) hC dX8_whole_43 rfl ?_
        refine hr_goto hC 48 dX8_whole_44 (by decide) ?_
        exact hr_sub _ rfl (J15 _ (by first | (rw [if_neg c17]; done) | (simp only [if_neg c17]; done) | rfl))
set_option maxRecDepth 20000 in
set_option maxHeartbeats 4000000 in
theorem okX8_whole (l : Launch) (E : hc_E) (A : Nat → Prop) (d : Nat) (n : Nat) (hD : 11 ≤ d) {x1 : Int32} {σ : hc_St} {r : hc_St} (h : fm_X8_whole n x1 σ = some r) (am : Nat → Nat → Nat) : hc_M l hc_V0 yX8_whole (ws_ yX8_whole cX8_whole 5 none) d E A [.ref (E.2.1 8), .int x1] am [2, 3, 4, 12, 22] σ (.inl none) r := by
  have hd1 : 1 ≤ d := by omega
  have hd8 : 9 ≤ d := by omega
  refine hc_enter2 (own := RX8) [(0, .ref (E.2.1 8)), (1, .int x1)] pl_X8 rfl hc_V0_st hc_G0_nd rfl (Nat.le_of_ble_eq_true rfl) (fun X hC hem => ?_)
  unfold fm_X8_whole at h
  refine hr_iconst (v := 0) hC dX8_whole_0 rfl ?_
  refine hr_istore_n hC dX8_whole_1 (by decide) ?_
  refine hr_iconst (v := 0) hC dX8_whole_2 rfl ?_
  refine hr_istore_n hC dX8_whole_3 (by decide) ?_
  refine hr_iconst (v := 0) hC dX8_whole_4 rfl ?_
  refine hr_istore hC dX8_whole_5 (by decide) ?_
  obtain ⟨r18, e19, h⟩ := hx_bind h
  refine hr_sub _ rfl (ll_X8_whole_7 n hD hem hC n _ _ _ _ _ _ e19 (fun am22 => ?_) am)
  refine hr_iload_n hC dX8_whole_56 rfl ?_
  obtain ⟨r25, e26, h⟩ := hx_bind h
  have J27 : hc_At hc_V0 E 5 X 70 [(0, .ref (E.2.1 8)), (1, .int x1), (3, .int r18.2.2)] [] r25 am22 [] := by
    refine hr_iload_n hC dX8_whole_70 rfl ?_
    obtain ⟨r35, e36, h⟩ := hx_bind h
    have J37 : hc_At hc_V0 E 5 X 84 [(0, .ref (E.2.1 8)), (1, .int x1)] [] r35 am22 [] := by
      refine hr_aload_n hC dX8_whole_84 rfl ?_
      refine hr_gI hC F8_9 dX8_whole_85 q670 ?_
      refine hr_sipush (v := 200) hC dX8_whole_88 rfl ?_
      obtain ⟨r45, e46, h⟩ := hx_bind h
      have J47 : hc_At hc_V0 E 5 X 118 [] [] r45 am22 [] := by
        obtain rfl := Option.some.inj h
        exact hr_vret hC dX8_whole_118
      clear h
      have h := e46
      refine hr_icmp_gt (x := _) hC 108 dX8_whole_91 (by decide) (fun c44 => ?_) (fun c44 => ?_)
      · rw [if_pos c44] at h
        refine hr_aload_n hC dX8_whole_108 rfl ?_
        refine hr_gO 9 hC F8_3 rfl dX8_whole_109 q664 ?_
        refine hr_bipush (v := 14) hC dX8_whole_112 rfl ?_
        refine hr_iload_n hC dX8_whole_114 rfl ?_
        obtain ⟨r49, e50, h⟩ := hx_bind h
        refine hs_callV0 hC 9 [_, _] _ dX8_whole_115 q1597 q1598 q1599 q323 q1600 np_X9 rfl OB_9 pd_X9_say (Nat.le_of_ble_eq_true rfl) hd1 (okX9_say l E A (d - 1)  (by omega)  e50 am22) rfl ?_
        obtain rfl := Option.some.inj h
        exact hr_sub _ rfl (J47)
      · rw [if_neg c44] at h
        refine hr_aload_n hC dX8_whole_94 rfl ?_
        refine hr_gO 11 hC F8_5 rfl dX8_whole_95 q666 ?_
        refine hr_iconst (v := (-1)) hC dX8_whole_98 rfl ?_
        obtain ⟨r53, e54, h⟩ := hx_bind h
        refine hs_callV0 hC 11 [_] _ dX8_whole_99 q1840 q1841 q1842 q325 q1843 np_X11 rfl OB_11 pd_X11_wordsOf (Nat.le_of_ble_eq_true rfl) hd1 (okX11_wordsOf l E A (d - 1)  (by omega)  e54 am22) rfl ?_
        refine hr_sipush (v := 8192) hC dX8_whole_102 rfl ?_
        refine hr_icmp_le (x := _) hC 118 dX8_whole_105 (by decide) (fun c58 => ?_) (fun c58 => ?_)
        · rw [if_pos c58] at h
          obtain rfl := Option.some.inj h
          exact hr_sub _ rfl (J47)
        · rw [if_neg c58] at h
          refine hr_aload_n hC dX8_whole_108 rfl ?_
          refine hr_gO 9 hC F8_3 rfl dX8_whole_109 q664 ?_
          refine hr_bipush (v := 14) hC dX8_whole_112 rfl ?_
          refine hr_iload_n hC dX8_whole_114 rfl ?_
          obtain ⟨r59, e60, h⟩ := hx_bind h
          refine hs_callV0 hC 9 [_, _] _ dX8_whole_115 q1597 q1598 q1599 q323 q1600 np_X9 rfl OB_9 pd_X9_say (Nat.le_of_ble_eq_true rfl) hd1 (okX9_say l E A (d - 1)  (by omega)  e60 am22) rfl ?_
          obtain rfl := Option.some.inj h
          exact hr_sub _ rfl (J47)
    clear h
    have h := e36
    refine hr_if_eq (x := _) hC 84 dX8_whole_71 (by decide) (fun c34 => ?_) (fun c34 => ?_)
    · rw [if_pos c34] at h
      obtain rfl := Option.some.inj h
      exact hr_sub _ rfl (J37)
    · rw [if_neg c34] at h
      refine hr_aload_n hC dX8_whole_74 rfl ?_
      refine hr_gO 9 hC F8_3 rfl dX8_whole_75 q664 ?_
      refine hr_bipush (v := 13) hC dX8_whole_78 rfl ?_
      refine hr_iload_n hC dX8_whole_80 rfl ?_
      obtain ⟨r39, e40, h⟩ := hx_bind h
      refine hs_callV0 hC 9 [_, _] _ dX8_whole_81 q1597 q1598 q1599 q323 q1600 np_X9 rfl OB_9 pd_X9_say (Nat.le_of_ble_eq_true rfl) hd1 (okX9_say l E A (d - 1)  (by omega)  e40 am22) rfl ?_
      obtain rfl := Option.some.inj h
      exact hr_sub _ rfl (J37)
  clear h
  have h := e26
  refine hr_if_ne (x := _) hC 70 dX8_whole_57 (by decide) (fun c24 => ?_) (fun c24 => ?_)
  · rw [if_neg c24] at h
    obtain rfl := Option.some.inj h
    exact hr_sub _ rfl (J27)
  · rw [if_pos c24] at h
    refine hr_aload_n hC dX8_whole_60 rfl ?_
    refine hr_gO 9 hC F8_3 rfl dX8_whole_61 q664 ?_
    refine hr_bipush (v := 12) hC dX8_whole_64 rfl ?_
    refine hr_iload_n hC dX8_whole_66 rfl ?_
    obtain ⟨r29, e30, h⟩ := hx_bind h
    refine hs_callV0 hC 9 [_, _] _ dX8_whole_67 q1597 q1598 q1599 q323 q1600 np_X9 rfl OB_9 pd_X9_say (Nat.le_of_ble_eq_true rfl) hd1 (okX9_say l E A (d - 1)  (by omega)  e30 am22) rfl ?_
    obtain rfl := Option.some.inj h
    exact hr_sub _ rfl (J27)
def lp_X8_check_41 (n : Nat) (k0 : Nat) : Nat → Int32 → Int32 → Int32 → hc_St → Option (hc_St)
  | 0, _, _, _, _ => none
  | m + 1, y1, y3, y4, σ => if (gI σ 8 10) ≤ y4 then (some (σ)) else (Option.bind (fm_X2_given y4 σ) fun r19 => Option.bind (fm_X8_nameOf n r19 σ) fun r23 => Option.bind (fm_X10_add r23.1 2 y4 r23.2) fun r27 => lp_X8_check_41 n k0 m y1 y3 ((y4 + 1)) r27)
def lp_X8_check_89 (n : Nat) (k0 : Nat) : Nat → Int32 → Int32 → Int32 → hc_St → Option (hc_St)
  | 0, _, _, _, _ => none
  | m + 1, y1, y3, y4, σ => if y4 = (-1) then (some (σ)) else (Option.bind (fm_X6_kind y4 σ) fun r42 => Option.bind (α := hc_St) (if r42 = 4 then (Option.bind (fm_X8_know y4 σ) fun r52 => some (r52)) else (some (σ))) fun r48 => Option.bind (fm_X6_next y4 r48) fun r57 => lp_X8_check_89 n k0 m y1 y3 r57 r48)
def lp_X8_check_138 (n : Nat) (k0 : Nat) : Nat → Int32 → Int32 → hc_St → Option (hc_St)
  | 0, _, _, _ => none
  | m + 1, y3, y4, σ => if y4 = (-1) then (some (σ)) else (Option.bind (fm_X8_part n k0 y4 σ) fun r72 => Option.bind (fm_X6_next y4 r72) fun r76 => lp_X8_check_138 n k0 m y3 r76 r72)
/-- HomeCompiler$Checker.check(IZI)V -/
def fm_X8_check (n : Nat) (k0 : Nat) (x1 : Int32) (x2 : Int32) (x3 : Int32) (σ : hc_St) : Option hc_St := Option.bind (fm_X8_clear n σ) fun r1 => Option.bind (fm_X3_count  r1) fun r5 => Option.bind (fm_X10_clear n ((((r5 + 15)) + 2)) r1) fun r9 => hl (α := Int32) ((if x2 = 0 then 10 else 15)) fun v15 => hl (pI r9 8 10 v15) fun σ16 => Option.bind (lp_X8_check_41 n k0 n x1 x3 0 σ16) fun r31 => Option.bind (fm_X6_first x1 r31) fun r36 => Option.bind (lp_X8_check_89 n k0 n x1 x3 r36 r31) fun r61 => Option.bind (fm_X6_first x1 r61) fun r66 => Option.bind (lp_X8_check_138 n k0 n x3 r66 r61) fun r80 => Option.bind (fm_X9_number  r80) fun r85 => Option.bind (α := hc_St) (if r85 = 0 then (Option.bind (fm_X8_whole n x3 r80) fun r95 => some (r95)) else (some (r80))) fun r91 => some r91
set_option maxRecDepth 20000 in
set_option maxHeartbeats 4000000 in
theorem ll_X8_check_41 {l : Launch} {E : hc_E} {A : Nat → Prop} {am : Nat → Nat → Nat} {d : Nat} {X : hc_X} (n : Nat) (k0 : Nat) (hD : 3 * k0 + 17 ≤ d) (hem : X.2.2.2.2.2.2.2.2.2.1.exceptionTable.isEmpty = true) {oc : hc_Oc} {σe : hc_St} (hC : hc_C hc_V0 E cX8_check 5 RX8 none d oc σe (l, A, am, [2, 3, 4, 8, 10, 11, 12, 22]) X) : ∀ (m : Nat) (σ : hc_St) (y1 : Int32) (y3 : Int32) (y4 : Int32) (rl : hc_St), lp_X8_check_41 n k0 m y1 y3 y4 σ = some rl → (∀ am1, hc_At hc_V0 E 5 X 79 [(0, .ref (E.2.1 8)), (1, .int y1), (3, .int y3)] [] rl am1 []) → ∀ am1, hc_At hc_V0 E 5 X 41 [(0, .ref (E.2.1 8)), (1, .int y1), (3, .int y3), (4, .int y4)] [] σ am1 [] := by
  have hd1 : 1 ≤ d := by omega
  have hd8 : 9 ≤ d := by omega
  have hd12 : 12 ≤ d := by omega
  intro m
  induction m with
  | zero =>
    intro σ y1 y3 y4 rl h
    cases h
  | succ m ih =>
    intro σ y1 y3 y4 rl h JX am1
    rw [lp_X8_check_41] at h
    refine hr_iload hC dX8_check_41 rfl ?_
    refine hr_aload_n hC dX8_check_43 rfl ?_
    refine hr_gI hC F8_10 dX8_check_44 q671 ?_
    refine hr_icmp_ge (x := _) hC 79 dX8_check_47 (by decide) (fun c18 => ?_) (fun c18 => ?_)
    · rw [if_pos c18] at h
      obtain rfl := Option.some.inj h
      exact hr_sub _ rfl (JX am1)
    · rw [if_neg c18] at h
      refine hr_aload_n hC dX8_check_50 rfl ?_
      refine hr_gO 10 hC F8_4 rfl dX8_check_51 q665 ?_
      refine hr_aload_n hC dX8_check_54 rfl ?_
      refine hr_aload_n hC dX8_check_55 rfl ?_
      refine hr_gO 1 hC F8_2 rfl dX8_check_56 q663 ?_
      refine hr_iload hC dX8_check_59 rfl ?_
      obtain ⟨r19, e20, h⟩ := hx_bind h
      refine hs_callV0 hC 1 [_] _ dX8_check_61 q1553 q1554 q1555 q316 q1556 np_X2 rfl OB_1 pd_X2_given (Nat.le_of_ble_eq_true rfl) hd1 (okX2_given l E A (d - 1)  (by omega)  e20 am1) rfl ?_
      obtain ⟨r23, e24, h⟩ := hx_bind h
      refine hs_callV hC 8 [_] _ dX8_check_64 q1557 q1559 qs55 q322 q1560 np_X8 rfl OB_8 pd_X8_nameOf (Nat.le_of_ble_eq_true rfl) hd1 (okX8_nameOf l E A (d - 1) n (by omega)  e24 am1) (hc_rb rfl) rfl (fun am25 ha26 => ?_)
      refine hr_iconst (v := 2) hC dX8_check_67 rfl ?_
      refine hr_iload hC dX8_check_68 rfl ?_
      obtain ⟨r27, e28, h⟩ := hx_bind h
      refine hs_callV hC 10 [_, _, _] _ dX8_check_70 q1567 q1568 q1569 q324 q1570 np_X10 rfl OB_10 pd_X10_add (Nat.le_of_ble_eq_true rfl) hd1 (okX10_add l E A (d - 1)  (by omega)  e28 am25) (hc_rb rfl) rfl (fun am29 ha30 => ?_)
      refine hr_iinc (v := y4 + 1) hC dX8_check_73 rfl rfl (by decide) ?_
      refine hr_goto hC 41 dX8_check_76 (by decide) ?_
      exact hr_sub _ rfl (ih _ _ _ _ _ h JX am29)
set_option maxRecDepth 20000 in
set_option maxHeartbeats 4000000 in
theorem ll_X8_check_89 {l : Launch} {E : hc_E} {A : Nat → Prop} {am : Nat → Nat → Nat} {d : Nat} {X : hc_X} (n : Nat) (k0 : Nat) (hD : 3 * k0 + 17 ≤ d) (hem : X.2.2.2.2.2.2.2.2.2.1.exceptionTable.isEmpty = true) {oc : hc_Oc} {σe : hc_St} (hC : hc_C hc_V0 E cX8_check 5 RX8 none d oc σe (l, A, am, [2, 3, 4, 8, 10, 11, 12, 22]) X) : ∀ (m : Nat) (σ : hc_St) (y1 : Int32) (y3 : Int32) (y4 : Int32) (rl : hc_St), lp_X8_check_89 n k0 m y1 y3 y4 σ = some rl → (∀ am1, hc_At hc_V0 E 5 X 128 [(0, .ref (E.2.1 8)), (1, .int y1), (3, .int y3)] [] rl am1 []) → ∀ am1, hc_At hc_V0 E 5 X 89 [(0, .ref (E.2.1 8)), (1, .int y1), (3, .int y3), (4, .int y4)] [] σ am1 [] := by
  have hd1 : 1 ≤ d := by omega
  have hd8 : 9 ≤ d := by omega
  have hd12 : 12 ≤ d := by omega
  intro m
  induction m with
  | zero =>
    intro σ y1 y3 y4 rl h
    cases h
  | succ m ih =>
    intro σ y1 y3 y4 rl h JX am1
    rw [lp_X8_check_89] at h
    refine hr_iload hC dX8_check_89 rfl ?_
    refine hr_iconst (v := (-1)) hC dX8_check_91 rfl ?_
    refine hr_icmp_eq (x := _) hC 128 dX8_check_92 (by decide) (fun c41 => ?_) (fun c41 => ?_)
    · rw [if_pos c41] at h
      obtain rfl := Option.some.inj h
      exact hr_sub _ rfl (JX am1)
    · rw [if_neg c41] at h
      refine hr_aload_n hC dX8_check_95 rfl ?_
      refine hr_gO 6 hC F8_0 rfl dX8_check_96 q661 ?_
      refine hr_iload hC dX8_check_99 rfl ?_
      obtain ⟨r42, e43, h⟩ := hx_bind h
      refine hs_callV0 hC 6 [_] _ dX8_check_101 q1579 q1369 q1370 q320 q1371 np_X6 rfl OB_6 pd_X6_kind (Nat.le_of_ble_eq_true rfl) hd1 (okX6_kind l E A (d - 1)  (by omega)  e43 am1) rfl ?_
      refine hr_iconst (v := 4) hC dX8_check_104 rfl ?_
      obtain ⟨r48, e49, h⟩ := hx_bind h
      have J50 : ∀ am56, hc_At hc_V0 E 5 X 114 [(0, .ref (E.2.1 8)), (1, .int y1), (3, .int y3), (4, .int y4)] [] r48 am56 [] := by
        intro am56
        refine hr_aload_n hC dX8_check_114 rfl ?_
        refine hr_gO 6 hC F8_0 rfl dX8_check_115 q661 ?_
        refine hr_iload hC dX8_check_118 rfl ?_
        obtain ⟨r57, e58, h⟩ := hx_bind h
        refine hs_callV0 hC 6 [_] _ dX8_check_120 q1602 q1603 q1604 q320 q1605 np_X6 rfl OB_6 pd_X6_next (Nat.le_of_ble_eq_true rfl) hd1 (okX6_next l E A (d - 1)  (by omega)  e58 am56) rfl ?_
        refine hr_istore hC dX8_check_123 (by decide) ?_
        refine hr_goto hC 89 dX8_check_125 (by decide) ?_
        exact hr_sub _ rfl (ih _ _ _ _ _ h JX am56)
      clear h
      have h := e49
      refine hr_icmp_ne (x := _) hC 114 dX8_check_105 (by decide) (fun c47 => ?_) (fun c47 => ?_)
      · rw [if_neg c47] at h
        obtain rfl := Option.some.inj h
        exact hr_sub _ rfl (J50 am1)
      · rw [if_pos c47] at h
        refine hr_aload_n hC dX8_check_108 rfl ?_
        refine hr_iload hC dX8_check_109 rfl ?_
        obtain ⟨r52, e53, h⟩ := hx_bind h
        refine hs_callV hC 8 [_] _ dX8_check_111 q1580 q1582 qs56 q322 q1583 np_X8 rfl OB_8 pd_X8_know (Nat.le_of_ble_eq_true rfl) hd1 (okX8_know l E A (d - 1)  (by omega)  e53 am1) (hc_rb rfl) rfl (fun am54 ha55 => ?_)
        obtain rfl := Option.some.inj h
        exact hr_sub _ rfl (J50 am54)
set_option maxRecDepth 20000 in
set_option maxHeartbeats 4000000 in
theorem ll_X8_check_138 {l : Launch} {E : hc_E} {A : Nat → Prop} {am : Nat → Nat → Nat} {d : Nat} {X : hc_X} (n : Nat) (k0 : Nat) (hD : 3 * k0 + 17 ≤ d) (hem : X.2.2.2.2.2.2.2.2.2.1.exceptionTable.isEmpty = true) {oc : hc_Oc} {σe : hc_St} (hC : hc_C hc_V0 E cX8_check 5 RX8 none d oc σe (l, A, am, [2, 3, 4, 8, 10, 11, 12, 22]) X) : ∀ (m : Nat) (σ : hc_St) (y3 : Int32) (y4 : Int32) (rl : hc_St), lp_X8_check_138 n k0 m y3 y4 σ = some rl → (∀ am1, hc_At hc_V0 E 5 X 164 [(0, .ref (E.2.1 8)), (3, .int y3)] [] rl am1 []) → ∀ am1, hc_At hc_V0 E 5 X 138 [(0, .ref (E.2.1 8)), (3, .int y3), (4, .int y4)] [] σ am1 [] := by
  have hd1 : 1 ≤ d := by omega
  have hd8 : 9 ≤ d := by omega
  have hd12 : 12 ≤ d := by omega
  intro m
  induction m with
  | zero =>
    intro σ y3 y4 rl h
    cases h
  | succ m ih =>
    intro σ y3 y4 rl h JX am1
    rw [lp_X8_check_138] at h
    refine hr_iload hC dX8_check_138 rfl ?_
    refine hr_iconst (v := (-1)) hC dX8_check_140 rfl ?_
    refine hr_icmp_eq (x := _) hC 164 dX8_check_141 (by decide) (fun c71 => ?_) (fun c71 => ?_)
    · rw [if_pos c71] at h
      obtain rfl := Option.some.inj h
      exact hr_sub _ rfl (JX am1)
    · rw [if_neg c71] at h
      refine hr_aload_n hC dX8_check_144 rfl ?_
      refine hr_iload hC dX8_check_145 rfl ?_
      obtain ⟨r72, e73, h⟩ := hx_bind h
      refine hs_callV hC 8 [_] _ dX8_check_147 q1606 q1608 qs57 q322 q1609 np_X8 rfl OB_8 pd_X8_part (Nat.le_of_ble_eq_true rfl) hd1 (okX8_part l E A (d - 1) n k0 (by omega)  e73 am1) (hc_rb rfl) rfl (fun am74 ha75 => ?_)
      refine hr_aload_n hC dX8_check_150 rfl ?_
      refine hr_gO 6 hC F8_0 rfl dX8_check_151 q661 ?_
      refine hr_iload hC dX8_check_154 rfl ?_
      obtain ⟨r76, e77, h⟩ := hx_bind h
      refine hs_callV0 hC 6 [_] _ dX8_check_156 q1602 q1603 q1604 q320 q1605 np_X6 rfl OB_6 pd_X6_next (Nat.le_of_ble_eq_true rfl) hd1 (okX6_next l E A (d - 1)  (by omega)  e77 am74) rfl ?_
      refine hr_istore hC dX8_check_159 (by decide) ?_
      refine hr_goto hC 138 dX8_check_161 (by decide) ?_
      exact hr_sub _ rfl (ih _ _ _ _ h JX am74)
set_option maxRecDepth 20000 in
set_option maxHeartbeats 4000000 in
theorem okX8_check (l : Launch) (E : hc_E) (A : Nat → Prop) (d : Nat) (n : Nat) (k0 : Nat) (hD : 3 * k0 + 17 ≤ d) {x1 : Int32} {x2 : Int32} {x3 : Int32} {σ : hc_St} {r : hc_St} (h : fm_X8_check n k0 x1 x2 x3 σ = some r) (am : Nat → Nat → Nat) : hc_M l hc_V0 yX8_check (ws_ yX8_check cX8_check 5 none) d E A [.ref (E.2.1 8), .int x1, .int x2, .int x3] am [2, 3, 4, 8, 10, 11, 12, 22] σ (.inl none) r := by
  have hd1 : 1 ≤ d := by omega
  have hd8 : 9 ≤ d := by omega
  have hd12 : 12 ≤ d := by omega
  refine hc_enter2 (own := RX8) [(0, .ref (E.2.1 8)), (1, .int x1), (2, .int x2), (3, .int x3)] pl_X8 rfl hc_V0_st hc_G0_nd rfl (Nat.le_of_ble_eq_true rfl) (fun X hC hem => ?_)
  unfold fm_X8_check at h
  refine hr_aload_n hC dX8_check_0 rfl ?_
  obtain ⟨r1, e2, h⟩ := hx_bind h
  refine hs_callV0 hC 8 [] _ dX8_check_1 q1544 q1056 q1057 q322 q1058 np_X8 rfl OB_8 pd_X8_clear (Nat.le_of_ble_eq_true rfl) hd1 (okX8_clear l E A (d - 1) n (by omega)  e2 am) rfl ?_
  refine hr_aload_n hC dX8_check_4 rfl ?_
  refine hr_gO 10 hC F8_4 rfl dX8_check_5 q665 ?_
  refine hr_aload_n hC dX8_check_8 rfl ?_
  refine hr_gO 2 hC F8_1 rfl dX8_check_9 q662 ?_
  obtain ⟨r5, e6, h⟩ := hx_bind h
  refine hs_callV0 hC 2 [] _ dX8_check_12 q1545 q1546 q1547 q317 q1548 np_X3 rfl OB_2 pd_X3_count (Nat.le_of_ble_eq_true rfl) hd1 (okX3_count l E A (d - 1)  (by omega)  e6 am) rfl ?_
  refine hr_bipush (v := 15) hC dX8_check_15 rfl ?_
  refine hr_iadd hC dX8_check_17 ?_
  refine hr_iconst (v := 2) hC dX8_check_18 rfl ?_
  refine hr_iadd hC dX8_check_19 ?_
  obtain ⟨r9, e10, h⟩ := hx_bind h
  refine hs_callV hC 10 [_] _ dX8_check_20 q1549 q1550 q1551 q324 q1552 np_X10 rfl OB_10 pd_X10_clear (Nat.le_of_ble_eq_true rfl) hd1 (okX10_clear l E A (d - 1) n (by omega)  e10 am) (hc_rb rfl) rfl (fun am11 ha12 => ?_)
  refine hr_aload_n hC dX8_check_23 rfl ?_
  refine hr_iload_n hC dX8_check_24 rfl ?_
  obtain ⟨v15, hv15, h⟩ := hl_ok h
  have J100 : ∀ w101 : Int32, (if x2 = 0 then 10 else 15) = w101 → hc_At hc_V0 E 5 X 35 [(0, .ref (E.2.1 8)), (1, .int x1), (3, .int x3)] [.int w101, .ref (E.2.1 8)] r9 am11 [] := by
    intro w101 hw101
    obtain rfl := hv15.trans hw101
    obtain ⟨σ16, hσ16, h⟩ := hl_ok h
    refine hr_pI hC F8_10 PX8_10 dX8_check_35 q671 ?_
    rw [← hσ16]
    refine hr_iconst (v := 0) hC dX8_check_38 rfl ?_
    refine hr_istore hC dX8_check_39 (by decide) ?_
    obtain ⟨r31, e32, h⟩ := hx_bind h
    refine hr_sub _ rfl (ll_X8_check_41 n k0 hD hem hC n _ _ _ _ _ e32 (fun am35 => ?_) am11)
    refine hr_aload_n hC dX8_check_79 rfl ?_
    refine hr_gO 6 hC F8_0 rfl dX8_check_80 q661 ?_
    refine hr_iload_n hC dX8_check_83 rfl ?_
    obtain ⟨r36, e37, h⟩ := hx_bind h
    refine hs_callV0 hC 6 [_] _ dX8_check_84 q1575 q1576 q1577 q320 q1578 np_X6 rfl OB_6 pd_X6_first (Nat.le_of_ble_eq_true rfl) hd1 (okX6_first l E A (d - 1)  (by omega)  e37 am35) rfl ?_
    refine hr_istore hC dX8_check_87 (by decide) ?_
    obtain ⟨r61, e62, h⟩ := hx_bind h
    refine hr_sub _ rfl (ll_X8_check_89 n k0 hD hem hC n _ _ _ _ _ e62 (fun am65 => ?_) am35)
    refine hr_aload_n hC dX8_check_128 rfl ?_
    refine hr_gO 6 hC F8_0 rfl dX8_check_129 q661 ?_
    refine hr_iload_n hC dX8_check_132 rfl ?_
    obtain ⟨r66, e67, h⟩ := hx_bind h
    refine hs_callV0 hC 6 [_] _ dX8_check_133 q1575 q1576 q1577 q320 q1578 np_X6 rfl OB_6 pd_X6_first (Nat.le_of_ble_eq_true rfl) hd1 (okX6_first l E A (d - 1)  (by omega)  e67 am65) rfl ?_
    refine hr_istore hC dX8_check_136 (by decide) ?_
    obtain ⟨r80, e81, h⟩ := hx_bind h
    refine hr_sub _ rfl (ll_X8_check_138 n k0 hD hem hC n _ _ _ _ e81 (fun am84 => ?_) am65)
    refine hr_aload_n hC dX8_check_164 rfl ?_
    refine hr_gO 9 hC F8_3 rfl dX8_check_165 q664 ?_
    obtain ⟨r85, e86, h⟩ := hx_bind h
    refine hs_callV0 hC 9 [] _ dX8_check_168 q1823 q1824 q1825 q323 q1826 np_X9 rfl OB_9 pd_X9_number (Nat.le_of_ble_eq_true rfl) hd1 (okX9_number l E A (d - 1)  (by omega)  e86 am84) rfl ?_
    obtain ⟨r91, e92, h⟩ := hx_bind h
    have J93 : ∀ am99, hc_At hc_V0 E 5 X 179 [] [] r91 am99 [] := by
      intro am99
      obtain rfl := Option.some.inj h
      exact hr_vret hC dX8_check_179
    clear h
    have h := e92
    refine hr_if_ne (x := _) hC 179 dX8_check_171 (by decide) (fun c90 => ?_) (fun c90 => ?_)
    · rw [if_neg c90] at h
      obtain rfl := Option.some.inj h
      exact hr_sub _ rfl (J93 am84)
    · rw [if_pos c90] at h
      refine hr_aload_n hC dX8_check_174 rfl ?_
      refine hr_iload_n hC dX8_check_175 rfl ?_
      obtain ⟨r95, e96, h⟩ := hx_bind h
      refine hs_callV hC 8 [_] _ dX8_check_176 q1827 q1829 qs93 q322 q1830 np_X8 rfl OB_8 pd_X8_whole (Nat.le_of_ble_eq_true rfl) hd1 (okX8_whole l E A (d - 1) n (by omega)  e96 am84) (hc_rb rfl) rfl (fun am97 ha98 => ?_)
      obtain rfl := Option.some.inj h
      exact hr_sub _ rfl (J93 am97)
  refine hr_if_eq (x := _) hC 33 dX8_check_25 (by decide) (fun c102 => ?_) (fun c102 => ?_)
  · refine hr_bipush (v := 10) hC dX8_check_33 rfl ?_
    exact hr_sub _ rfl (J100 _ (by first | (rw [if_pos c102]; done) | (simp only [if_pos c102]; done) | rfl))
  · refine hr_bipush (v := 15) hC dX8_check_28 rfl ?_
    refine hr_goto hC 35 dX8_check_30 (by decide) ?_
    exact hr_sub _ rfl (J100 _ (by first | (rw [if_neg c102]; done) | (simp only [if_neg c102]; done) | rfl))
/-- HomeCompiler$Checker.wrong()LHomeCompiler$Wrong; -/
def fm_X8_wrong   (σ : hc_St) : Option Int32 := some 0
set_option maxRecDepth 20000 in
set_option maxHeartbeats 4000000 in
theorem okX8_wrong (l : Launch) (E : hc_E) (A : Nat → Prop) (d : Nat)  (hD : 1 ≤ d)  {σ : hc_St} {r : Int32} (h : fm_X8_wrong   σ = some r) (am : Nat → Nat → Nat) : hc_M l hc_V0 yX8_wrong (ws_ yX8_wrong cX8_wrong 1 (some (.object "HomeCompiler$Wrong"))) d E A [.ref (E.2.1 8)] am [] σ (.inl (some (.ref (E.2.1 9)))) σ := by
  have hd1 : 1 ≤ d := by omega
  refine hc_enter2 (own := RX8) [(0, .ref (E.2.1 8))] pl_X8 rfl hc_V0_st hc_G0_nd rfl (Nat.le_of_ble_eq_true rfl) (fun X hC hem => ?_)
  unfold fm_X8_wrong at h
  refine hr_aload_n hC dX8_wrong_0 rfl ?_
  refine hr_gO 9 hC F8_3 rfl dX8_wrong_1 q664 ?_
  obtain rfl := Option.some.inj h
  exact hr_aret hC (Or.inl ⟨_, rfl⟩) dX8_wrong_4
/-- HomeCompiler$Wrong.place()I -/
def fm_X9_place   (σ : hc_St) : Option Int32 := some ((gI σ 9 1))
set_option maxRecDepth 20000 in
set_option maxHeartbeats 4000000 in
theorem okX9_place (l : Launch) (E : hc_E) (A : Nat → Prop) (d : Nat)  (hD : 1 ≤ d)  {σ : hc_St} {r : Int32} (h : fm_X9_place   σ = some r) (am : Nat → Nat → Nat) : hc_M l hc_V0 yX9_place (ws_ yX9_place cX9_place 1 (some .int)) d E A [.ref (E.2.1 9)] am [] σ (.inl (some (.int r))) σ := by
  have hd1 : 1 ≤ d := by omega
  refine hc_enter2 (own := RX9) [(0, .ref (E.2.1 9))] pl_X9 rfl hc_V0_st hc_G0_nd rfl (Nat.le_of_ble_eq_true rfl) (fun X hC hem => ?_)
  unfold fm_X9_place at h
  refine hr_aload_n hC dX9_place_0 rfl ?_
  refine hr_gI hC F9_1 dX9_place_1 q597 ?_
  obtain rfl := Option.some.inj h
  exact hr_iret hC dX9_place_4
/-- HomeCompiler$Checker.variables()LHomeCompiler$Variables; -/
def fm_X8_variables   (σ : hc_St) : Option Int32 := some 0
set_option maxRecDepth 20000 in
set_option maxHeartbeats 4000000 in
theorem okX8_variables (l : Launch) (E : hc_E) (A : Nat → Prop) (d : Nat)  (hD : 1 ≤ d)  {σ : hc_St} {r : Int32} (h : fm_X8_variables   σ = some r) (am : Nat → Nat → Nat) : hc_M l hc_V0 yX8_variables (ws_ yX8_variables cX8_variables 1 (some (.object "HomeCompiler$Variables"))) d E A [.ref (E.2.1 8)] am [] σ (.inl (some (.ref (E.2.1 11)))) σ := by
  have hd1 : 1 ≤ d := by omega
  refine hc_enter2 (own := RX8) [(0, .ref (E.2.1 8))] pl_X8 rfl hc_V0_st hc_G0_nd rfl (Nat.le_of_ble_eq_true rfl) (fun X hC hem => ?_)
  unfold fm_X8_variables at h
  refine hr_aload_n hC dX8_variables_0 rfl ?_
  refine hr_gO 11 hC F8_5 rfl dX8_variables_1 q666 ?_
  obtain rfl := Option.some.inj h
  exact hr_aret hC (Or.inl ⟨_, rfl⟩) dX8_variables_4
/-- HomeCompiler$Variables.count()I -/
def fm_X11_count   (σ : hc_St) : Option Int32 := some ((gI σ 11 3))
set_option maxRecDepth 20000 in
set_option maxHeartbeats 4000000 in
theorem okX11_count (l : Launch) (E : hc_E) (A : Nat → Prop) (d : Nat)  (hD : 1 ≤ d)  {σ : hc_St} {r : Int32} (h : fm_X11_count   σ = some r) (am : Nat → Nat → Nat) : hc_M l hc_V0 yX11_count (ws_ yX11_count cX11_count 1 (some .int)) d E A [.ref (E.2.1 11)] am [] σ (.inl (some (.int r))) σ := by
  have hd1 : 1 ≤ d := by omega
  refine hc_enter2 (own := RX11) [(0, .ref (E.2.1 11))] pl_X11 rfl hc_V0_st hc_G0_nd rfl (Nat.le_of_ble_eq_true rfl) (fun X hC hem => ?_)
  unfold fm_X11_count at h
  refine hr_aload_n hC dX11_count_0 rfl ?_
  refine hr_gI hC F11_3 dX11_count_1 q643 ?_
  obtain rfl := Option.some.inj h
  exact hr_iret hC dX11_count_4
/-- HomeCompiler$Variables.owner(I)I -/
def fm_X11_owner  (x1 : Int32) (σ : hc_St) : Option Int32 := hk (inb x1 (gL σ 11 2)) <| some ((gC σ 11 2 x1))
set_option maxRecDepth 20000 in
set_option maxHeartbeats 4000000 in
theorem okX11_owner (l : Launch) (E : hc_E) (A : Nat → Prop) (d : Nat)  (hD : 1 ≤ d) {x1 : Int32} {σ : hc_St} {r : Int32} (h : fm_X11_owner  x1 σ = some r) (am : Nat → Nat → Nat) : hc_M l hc_V0 yX11_owner (ws_ yX11_owner cX11_owner 2 (some .int)) d E A [.ref (E.2.1 11), .int x1] am [] σ (.inl (some (.int r))) σ := by
  have hd1 : 1 ≤ d := by omega
  refine hc_enter2 (own := RX11) [(0, .ref (E.2.1 11)), (1, .int x1)] pl_X11 rfl hc_V0_st hc_G0_nd rfl (Nat.le_of_ble_eq_true rfl) (fun X hC hem => ?_)
  unfold fm_X11_owner at h
  refine hr_aload_n hC dX11_owner_0 rfl ?_
  refine hr_gA hC F11_2 rfl dX11_owner_1 q642 ?_
  refine hr_iload_n hC dX11_owner_4 rfl ?_
  obtain ⟨c1, h⟩ := hk_ok h
  refine hs_iald hC A11_2 c1 dX11_owner_5 ?_
  obtain rfl := Option.some.inj h
  exact hr_iret hC dX11_owner_6
def lp_X13_placeAll_34 (n : Nat) : Nat → Int32 → Int32 → hc_St → Option (hc_St × Int32)
  | 0, _, _, _ => none
  | m + 1, y2, y3, σ => Option.bind (fm_X11_count  σ) fun r20 => if r20 ≤ y3 then (some (σ, y2)) else (Option.bind (fm_X11_owner y3 σ) fun r26 => Option.bind (α := hc_St × Int32) (if r26 = (-1) then (hk (inb y3 (gL σ 14 9)) <| hl (pC σ 14 9 y3 y2) fun σ37 => Option.bind (fm_X11_words y3 σ37) fun r38 => some (σ37, (y2 + ((4 * r38))))) else (some (σ, y2))) fun r32 => lp_X13_placeAll_34 n m r32.2 ((y3 + 1)) r32.1)
/-- HomeCompiler$Generator.placeAll(I)I -/
def fm_X13_placeAll (n : Nat) (x1 : Int32) (σ : hc_St) : Option (Int32 × hc_St) := Option.bind (fm_X11_count  σ) fun r1 => Option.bind (α := hc_St) (if r1 ≤ (nI (gL σ 14 9)) then (some (σ)) else (Option.bind (fm_X11_count  σ) fun r11 => hk (hna ((2 * r11)) σ) <| hl (pU σ 1 ((2 * r11)).toNatClampNeg) fun σ17 => hl (pA σ17 14 9 (((2 * r11)).toNatClampNeg) (fun _ => 0)) fun σ18 => some (σ18))) fun r7 => Option.bind (lp_X13_placeAll_34 n n x1 0 r7) fun r42 => some (r42.2, r42.1)
set_option maxRecDepth 20000 in
set_option maxHeartbeats 4000000 in
theorem ll_X13_placeAll_34 {l : Launch} {E : hc_E} {A : Nat → Prop} {am : Nat → Nat → Nat} {d : Nat} {X : hc_X} (n : Nat) (hD : 2 ≤ d) (hem : X.2.2.2.2.2.2.2.2.2.1.exceptionTable.isEmpty = true) {oc : hc_Oc} {σe : hc_St} (hC : hc_C hc_V0 E cX13_placeAll 4 RX13 (some .int) d oc σe (l, A, am, [14]) X) : ∀ (m : Nat) (σ : hc_St) (y2 : Int32) (y3 : Int32) (rl : hc_St × Int32) (am1 : Nat → Nat → Nat), lp_X13_placeAll_34 n m y2 y3 σ = some rl → (hc_At hc_V0 E 4 X 83 [(2, .int rl.2)] [] rl.1 am1 []) → hc_At hc_V0 E 4 X 34 [(0, .ref (E.2.1 14)), (2, .int y2), (3, .int y3)] [] σ am1 [] := by
  have hd1 : 1 ≤ d := by omega
  intro m
  induction m with
  | zero =>
    intro σ y2 y3 rl am1 h
    cases h
  | succ m ih =>
    intro σ y2 y3 rl am1 h JX
    rw [lp_X13_placeAll_34] at h
    refine hr_iload_n hC dX13_placeAll_34 rfl ?_
    refine hr_aload_n hC dX13_placeAll_35 rfl ?_
    refine hr_gO 11 hC F14_2 rfl dX13_placeAll_36 q797 ?_
    obtain ⟨r20, e21, h⟩ := hx_bind h
    refine hs_callV0 hC 11 [] _ dX13_placeAll_39 q1863 q1864 q1865 q325 q1866 np_X11 rfl OB_11 pd_X11_count (Nat.le_of_ble_eq_true rfl) hd1 (okX11_count l E A (d - 1)  (by omega)  e21 am1) rfl ?_
    refine hr_icmp_ge (x := _) hC 83 dX13_placeAll_42 (by decide) (fun c25 => ?_) (fun c25 => ?_)
    · rw [if_pos c25] at h
      obtain rfl := Option.some.inj h
      exact hr_sub _ rfl (JX)
    · rw [if_neg c25] at h
      refine hr_aload_n hC dX13_placeAll_45 rfl ?_
      refine hr_gO 11 hC F14_2 rfl dX13_placeAll_46 q797 ?_
      refine hr_iload_n hC dX13_placeAll_49 rfl ?_
      obtain ⟨r26, e27, h⟩ := hx_bind h
      refine hs_callV0 hC 11 [_] _ dX13_placeAll_50 q1867 q1868 q1869 q325 q1870 np_X11 rfl OB_11 pd_X11_owner (Nat.le_of_ble_eq_true rfl) hd1 (okX11_owner l E A (d - 1)  (by omega)  e27 am1) rfl ?_
      refine hr_iconst (v := (-1)) hC dX13_placeAll_53 rfl ?_
      obtain ⟨r32, e33, h⟩ := hx_bind h
      have J34 : hc_At hc_V0 E 4 X 77 [(0, .ref (E.2.1 14)), (2, .int r32.2), (3, .int y3)] [] r32.1 am1 [] := by
        refine hr_iinc (v := y3 + 1) hC dX13_placeAll_77 rfl rfl (by decide) ?_
        refine hr_goto hC 34 dX13_placeAll_80 (by decide) ?_
        exact hr_sub _ rfl (ih _ _ _ _ am1 h JX)
      clear h
      have h := e33
      refine hr_icmp_ne (x := _) hC 77 dX13_placeAll_54 (by decide) (fun c31 => ?_) (fun c31 => ?_)
      · rw [if_neg c31] at h
        obtain rfl := Option.some.inj h
        exact hr_sub _ rfl (J34)
      · rw [if_pos c31] at h
        refine hr_aload_n hC dX13_placeAll_57 rfl ?_
        refine hr_gA hC F14_9 rfl dX13_placeAll_58 q804 ?_
        refine hr_iload_n hC dX13_placeAll_61 rfl ?_
        refine hr_iload_n hC dX13_placeAll_62 rfl ?_
        obtain ⟨c36, h⟩ := hk_ok h
        obtain ⟨σ37, hσ37, h⟩ := hl_ok h
        refine hs_iast hC A14_9 c36 dX13_placeAll_63 ?_
        rw [← hσ37]
        refine hr_iload_n hC dX13_placeAll_64 rfl ?_
        refine hr_iconst (v := 4) hC dX13_placeAll_65 rfl ?_
        refine hr_aload_n hC dX13_placeAll_66 rfl ?_
        refine hr_gO 11 hC F14_2 rfl dX13_placeAll_67 q797 ?_
        refine hr_iload_n hC dX13_placeAll_70 rfl ?_
        obtain ⟨r38, e39, h⟩ := hx_bind h
        refine hs_callV0 hC 11 [_] _ dX13_placeAll_71 q1871 q1757 q1758 q325 q1759 np_X11 rfl OB_11 pd_X11_words (Nat.le_of_ble_eq_true rfl) hd1 (okX11_words l E A (d - 1)  (by omega)  e39 am1) rfl ?_
        refine hr_imul hC dX13_placeAll_74 ?_
        refine hr_iadd hC dX13_placeAll_75 ?_
        refine hr_istore_n hC dX13_placeAll_76 (by decide) ?_
        obtain rfl := Option.some.inj h
        exact hr_sub _ rfl (J34)
set_option maxRecDepth 20000 in
set_option maxHeartbeats 4000000 in
theorem okX13_placeAll (l : Launch) (E : hc_E) (A : Nat → Prop) (d : Nat) (n : Nat) (hD : 2 ≤ d) {x1 : Int32} {σ : hc_St} {r : (Int32 × hc_St)} (h : fm_X13_placeAll n x1 σ = some r) (am : Nat → Nat → Nat) : hc_M l hc_V0 yX13_placeAll (ws_ yX13_placeAll cX13_placeAll 4 (some .int)) d E A [.ref (E.2.1 14), .int x1] am [14] σ (.inl (some (.int r.1))) r.2 := by
  have hd1 : 1 ≤ d := by omega
  refine hc_enter2 (own := RX13) [(0, .ref (E.2.1 14)), (1, .int x1)] pl_X13 rfl hc_V0_st hc_G0_nd rfl (Nat.le_of_ble_eq_true rfl) (fun X hC hem => ?_)
  unfold fm_X13_placeAll at h
  refine hr_aload_n hC dX13_placeAll_0 rfl ?_
  refine hr_gA hC F14_9 rfl dX13_placeAll_1 q804 ?_
  refine hs_alen1 hC A14_9 dX13_placeAll_4 ?_
  refine hr_aload_n hC dX13_placeAll_5 rfl ?_
  refine hr_gO 11 hC F14_2 rfl dX13_placeAll_6 q797 ?_
  obtain ⟨r1, e2, h⟩ := hx_bind h
  refine hs_callV0 hC 11 [] _ dX13_placeAll_9 q1863 q1864 q1865 q325 q1866 np_X11 rfl OB_11 pd_X11_count (Nat.le_of_ble_eq_true rfl) hd1 (okX11_count l E A (d - 1)  (by omega)  e2 am) rfl ?_
  obtain ⟨r7, e8, h⟩ := hx_bind h
  have J9 : ∀ am19, hc_At hc_V0 E 4 X 30 [(0, .ref (E.2.1 14)), (1, .int x1)] [] r7 am19 [] := by
    intro am19
    refine hr_iload_n hC dX13_placeAll_30 rfl ?_
    refine hr_istore_n hC dX13_placeAll_31 (by decide) ?_
    refine hr_iconst (v := 0) hC dX13_placeAll_32 rfl ?_
    refine hr_istore_n hC dX13_placeAll_33 (by decide) ?_
    obtain ⟨r42, e43, h⟩ := hx_bind h
    refine hr_sub _ rfl (ll_X13_placeAll_34 n hD hem hC n _ _ _ _ am19 e43 ?_)
    refine hr_iload_n hC dX13_placeAll_83 rfl ?_
    obtain rfl := Option.some.inj h
    exact hr_iret hC dX13_placeAll_84
  clear h
  have h := e8
  refine hr_icmp_ge (x := _) hC 30 dX13_placeAll_12 (by decide) (fun c6 => ?_) (fun c6 => ?_)
  · rw [if_pos c6] at h
    obtain rfl := Option.some.inj h
    exact hr_sub _ rfl (J9 am)
  · rw [if_neg c6] at h
    refine hr_aload_n hC dX13_placeAll_15 rfl ?_
    refine hr_iconst (v := 2) hC dX13_placeAll_16 rfl ?_
    refine hr_aload_n hC dX13_placeAll_17 rfl ?_
    refine hr_gO 11 hC F14_2 rfl dX13_placeAll_18 q797 ?_
    obtain ⟨r11, e12, h⟩ := hx_bind h
    refine hs_callV0 hC 11 [] _ dX13_placeAll_21 q1863 q1864 q1865 q325 q1866 np_X11 rfl OB_11 pd_X11_count (Nat.le_of_ble_eq_true rfl) hd1 (okX11_count l E A (d - 1)  (by omega)  e12 am) rfl ?_
    refine hr_imul hC dX13_placeAll_24 ?_
    obtain ⟨c15, h⟩ := hk_ok h
    obtain ⟨σ17, hσ17, h⟩ := hl_ok h
    refine hs_newI hC dX13_placeAll_25 c15 (fun q16 => ?_)
    rw [← hσ17]
    obtain ⟨σ18, hσ18, h⟩ := hl_ok h
    refine hr_pA hC F14_9 rfl A14_9 PX13_9 (hc_mm rfl) dX13_placeAll_27 q804 ?_
    rw [← hσ18]
    obtain rfl := Option.some.inj h
    exact hr_sub _ rfl (J9 ((hc_up2 am 14 9 q16)))
/-- HomeCompiler$Emitter.clear()V -/
def fm_X12_clear   (σ : hc_St) : Option hc_St := hl (pI σ 13 1 0) fun σ1 => hl (pI σ1 13 3 0) fun σ2 => hl (pI σ2 13 6 0) fun σ3 => some σ3
set_option maxRecDepth 20000 in
set_option maxHeartbeats 4000000 in
theorem okX12_clear (l : Launch) (E : hc_E) (A : Nat → Prop) (d : Nat)  (hD : 1 ≤ d)  {σ : hc_St} {r : hc_St} (h : fm_X12_clear   σ = some r) (am : Nat → Nat → Nat) : hc_M l hc_V0 yX12_clear (ws_ yX12_clear cX12_clear 1 none) d E A [.ref (E.2.1 13)] am [] σ (.inl none) r := by
  have hd1 : 1 ≤ d := by omega
  refine hc_enter2 (own := RX12) [(0, .ref (E.2.1 13))] pl_X12 rfl hc_V0_st hc_G0_nd rfl (Nat.le_of_ble_eq_true rfl) (fun X hC hem => ?_)
  unfold fm_X12_clear at h
  refine hr_aload_n hC dX12_clear_0 rfl ?_
  refine hr_iconst (v := 0) hC dX12_clear_1 rfl ?_
  obtain ⟨σ1, hσ1, h⟩ := hl_ok h
  refine hr_pI hC F13_1 PX12_1 dX12_clear_2 q717 ?_
  rw [← hσ1]
  refine hr_aload_n hC dX12_clear_5 rfl ?_
  refine hr_iconst (v := 0) hC dX12_clear_6 rfl ?_
  obtain ⟨σ2, hσ2, h⟩ := hl_ok h
  refine hr_pI hC F13_3 PX12_3 dX12_clear_7 q719 ?_
  rw [← hσ2]
  refine hr_aload_n hC dX12_clear_10 rfl ?_
  refine hr_iconst (v := 0) hC dX12_clear_11 rfl ?_
  obtain ⟨σ3, hσ3, h⟩ := hl_ok h
  refine hr_pI hC F13_6 PX12_6 dX12_clear_12 q722 ?_
  rw [← hσ3]
  obtain rfl := Option.some.inj h
  exact hr_vret hC dX12_clear_15
def lp_X8_main_2 (n : Nat) : Nat → Int32 → hc_St → Option (hc_St × Int32)
  | 0, _, _ => none
  | m + 1, y1, σ => hk (inb y1 (gL σ 8 7)) <| Option.bind (fm_X8_isMain n ((gC σ 8 7 y1)) σ) fun r2 => if r2.1 = 0 then (lp_X8_main_2 n m ((y1 + 1)) r2.2) else (some (r2.2, y1))
/-- HomeCompiler$Checker.main()I -/
def fm_X8_main (n : Nat)  (σ : hc_St) : Option (Int32 × hc_St) := Option.bind (lp_X8_main_2 n n 0 σ) fun r8 => some (r8.2, r8.1)
set_option maxRecDepth 20000 in
set_option maxHeartbeats 4000000 in
theorem ll_X8_main_2 {l : Launch} {E : hc_E} {A : Nat → Prop} {am : Nat → Nat → Nat} {d : Nat} {X : hc_X} (n : Nat) (hD : 11 ≤ d) (hem : X.2.2.2.2.2.2.2.2.2.1.exceptionTable.isEmpty = true) {oc : hc_Oc} {σe : hc_St} (hC : hc_C hc_V0 E cX8_main 2 RX8 (some .int) d oc σe (l, A, am, [2, 3, 4, 12, 22]) X) : ∀ (m : Nat) (σ : hc_St) (y1 : Int32) (rl : hc_St × Int32), lp_X8_main_2 n m y1 σ = some rl → (∀ am1, hc_At hc_V0 E 2 X 21 [(1, .int rl.2)] [] rl.1 am1 []) → ∀ am1, hc_At hc_V0 E 2 X 2 [(0, .ref (E.2.1 8)), (1, .int y1)] [] σ am1 [] := by
  have hd1 : 1 ≤ d := by omega
  have hd8 : 9 ≤ d := by omega
  intro m
  induction m with
  | zero =>
    intro σ y1 rl h
    cases h
  | succ m ih =>
    intro σ y1 rl h JX am1
    rw [lp_X8_main_2] at h
    refine hr_aload_n hC dX8_main_2 rfl ?_
    refine hr_aload_n hC dX8_main_3 rfl ?_
    refine hr_gA hC F8_7 rfl dX8_main_4 q668 ?_
    refine hr_iload_n hC dX8_main_7 rfl ?_
    obtain ⟨c1, h⟩ := hk_ok h
    refine hs_iald hC A8_7 c1 dX8_main_8 ?_
    obtain ⟨r2, e3, h⟩ := hx_bind h
    refine hs_callV hC 8 [_] _ dX8_main_9 q1831 q1833 qs94 q322 q1834 np_X8 rfl OB_8 pd_X8_isMain (Nat.le_of_ble_eq_true rfl) hd1 (okX8_isMain l E A (d - 1) n (by omega)  e3 am1) (hc_rb rfl) rfl (fun am4 ha5 => ?_)
    refine hr_if_ne (x := _) hC 21 dX8_main_12 (by decide) (fun c7 => ?_) (fun c7 => ?_)
    · rw [if_neg c7] at h
      obtain rfl := Option.some.inj h
      exact hr_sub _ rfl (JX am4)
    · rw [if_pos c7] at h
      refine hr_iinc (v := y1 + 1) hC dX8_main_15 rfl rfl (by decide) ?_
      refine hr_goto hC 2 dX8_main_18 (by decide) ?_
      exact hr_sub _ rfl (ih _ _ _ h JX am4)
set_option maxRecDepth 20000 in
set_option maxHeartbeats 4000000 in
theorem okX8_main (l : Launch) (E : hc_E) (A : Nat → Prop) (d : Nat) (n : Nat) (hD : 11 ≤ d)  {σ : hc_St} {r : (Int32 × hc_St)} (h : fm_X8_main n  σ = some r) (am : Nat → Nat → Nat) : hc_M l hc_V0 yX8_main (ws_ yX8_main cX8_main 2 (some .int)) d E A [.ref (E.2.1 8)] am [2, 3, 4, 12, 22] σ (.inl (some (.int r.1))) r.2 := by
  have hd1 : 1 ≤ d := by omega
  have hd8 : 9 ≤ d := by omega
  refine hc_enter2 (own := RX8) [(0, .ref (E.2.1 8))] pl_X8 rfl hc_V0_st hc_G0_nd rfl (Nat.le_of_ble_eq_true rfl) (fun X hC hem => ?_)
  unfold fm_X8_main at h
  refine hr_iconst (v := 0) hC dX8_main_0 rfl ?_
  refine hr_istore_n hC dX8_main_1 (by decide) ?_
  obtain ⟨r8, e9, h⟩ := hx_bind h
  refine hr_sub _ rfl (ll_X8_main_2 n hD hem hC n _ _ _ e9 (fun am12 => ?_) am)
  refine hr_iload_n hC dX8_main_21 rfl ?_
  obtain rfl := Option.some.inj h
  exact hr_iret hC dX8_main_22
/-- HomeCompiler$Checker.count()I -/
def fm_X8_count   (σ : hc_St) : Option Int32 := some ((gI σ 8 9))
set_option maxRecDepth 20000 in
set_option maxHeartbeats 4000000 in
theorem okX8_count (l : Launch) (E : hc_E) (A : Nat → Prop) (d : Nat)  (hD : 1 ≤ d)  {σ : hc_St} {r : Int32} (h : fm_X8_count   σ = some r) (am : Nat → Nat → Nat) : hc_M l hc_V0 yX8_count (ws_ yX8_count cX8_count 1 (some .int)) d E A [.ref (E.2.1 8)] am [] σ (.inl (some (.int r))) σ := by
  have hd1 : 1 ≤ d := by omega
  refine hc_enter2 (own := RX8) [(0, .ref (E.2.1 8))] pl_X8 rfl hc_V0_st hc_G0_nd rfl (Nat.le_of_ble_eq_true rfl) (fun X hC hem => ?_)
  unfold fm_X8_count at h
  refine hr_aload_n hC dX8_count_0 rfl ?_
  refine hr_gI hC F8_9 dX8_count_1 q670 ?_
  obtain rfl := Option.some.inj h
  exact hr_iret hC dX8_count_4
/-- HomeCompiler$Emitter.label()I -/
def fm_X12_label   (σ : hc_St) : Option (Int32 × hc_St) := Option.bind (α := hc_St) (if (gI σ 13 3) = (nI (gL σ 13 2)) then (hk (hlo (gL σ 13 2) σ) <| hl (hlg σ 13 2) fun σ8 => some (σ8)) else (some (σ))) fun r3 => hk (inb ((gI r3 13 3)) (gL r3 13 2)) <| hl (pC r3 13 2 ((gI r3 13 3)) ((-1))) fun σ12 => hl (pI σ12 13 3 ((((gI σ12 13 3)) + 1))) fun σ13 => some ((gI σ12 13 3), σ13)
set_option maxRecDepth 20000 in
set_option maxHeartbeats 4000000 in
theorem okX12_label (l : Launch) (E : hc_E) (A : Nat → Prop) (d : Nat)  (hD : 5 ≤ d)  {σ : hc_St} {r : (Int32 × hc_St)} (h : fm_X12_label   σ = some r) (am : Nat → Nat → Nat) : hc_M l hc_V0 yX12_label (ws_ yX12_label cX12_label 1 (some .int)) d E A [.ref (E.2.1 13)] am [13] σ (.inl (some (.int r.1))) r.2 := by
  have hd1 : 1 ≤ d := by omega
  refine hc_enter2 (own := RX12) [(0, .ref (E.2.1 13))] pl_X12 rfl hc_V0_st hc_G0_nd rfl (Nat.le_of_ble_eq_true rfl) (fun X hC hem => ?_)
  unfold fm_X12_label at h
  refine hr_aload_n hC dX12_label_0 rfl ?_
  refine hr_gI hC F13_3 dX12_label_1 q719 ?_
  refine hr_aload_n hC dX12_label_4 rfl ?_
  refine hr_gA hC F13_2 rfl dX12_label_5 q718 ?_
  refine hs_alen1 hC A13_2 dX12_label_8 ?_
  obtain ⟨r3, e4, h⟩ := hx_bind h
  have J5 : ∀ am10, hc_At hc_V0 E 1 X 23 [(0, .ref (E.2.1 13))] [] r3 am10 [] := by
    intro am10
    refine hr_aload_n hC dX12_label_23 rfl ?_
    refine hr_gA hC F13_2 rfl dX12_label_24 q718 ?_
    refine hr_aload_n hC dX12_label_27 rfl ?_
    refine hr_gI hC F13_3 dX12_label_28 q719 ?_
    refine hr_iconst (v := (-1)) hC dX12_label_31 rfl ?_
    obtain ⟨c11, h⟩ := hk_ok h
    obtain ⟨σ12, hσ12, h⟩ := hl_ok h
    refine hs_iast hC A13_2 c11 dX12_label_32 ?_
    rw [← hσ12]
    refine hr_aload_n hC dX12_label_33 rfl ?_
    refine hr_dup hC dX12_label_34 rfl ?_
    refine hr_gI hC F13_3 dX12_label_35 q719 ?_
    refine hr_dup_x1 hC dX12_label_38 rfl rfl ?_
    refine hr_iconst (v := 1) hC dX12_label_39 rfl ?_
    refine hr_iadd hC dX12_label_40 ?_
    obtain ⟨σ13, hσ13, h⟩ := hl_ok h
    refine hr_pI hC F13_3 PX12_3 dX12_label_41 q719 ?_
    rw [← hσ13]
    obtain rfl := Option.some.inj h
    exact hr_iret hC dX12_label_44
  clear h
  have h := e4
  refine hr_icmp_ne (x := _) hC 23 dX12_label_9 (by decide) (fun c2 => ?_) (fun c2 => ?_)
  · rw [if_neg c2] at h
    obtain rfl := Option.some.inj h
    exact hr_sub _ rfl (J5 am)
  · rw [if_pos c2] at h
    refine hr_aload_n hC dX12_label_12 rfl ?_
    refine hr_aload_n hC dX12_label_13 rfl ?_
    refine hr_gA hC F13_2 rfl dX12_label_14 q718 ?_
    obtain ⟨c7, h⟩ := hk_ok h
    obtain ⟨σ8, hσ8, h⟩ := hl_ok h
    refine hr_longer (okl_X12 l E A (d - 1) (by omega)) hC F13_2 rfl A13_2 PX12_2 (hc_mm rfl) c7 dX12_label_17 q1892 dX12_label_20 q718 pd_X12_longer q1893 q326 q1894 np_X12 (Nat.le_of_ble_eq_true rfl) hd1 (fun q9 => ?_)
    rw [← hσ8]
    obtain rfl := Option.some.inj h
    exact hr_sub _ rfl (J5 ((hc_up2 am 13 2 q9)))
/-- HomeCompiler$Emitter.emit(I)V -/
def fm_X12_emit  (x1 : Int32) (σ : hc_St) : Option hc_St := Option.bind (α := hc_St) (if (gI σ 13 1) = (nI (gL σ 13 0)) then (hk (hlo (gL σ 13 0) σ) <| hl (hlg σ 13 0) fun σ8 => some (σ8)) else (some (σ))) fun r3 => hl (pI r3 13 1 ((((gI r3 13 1)) + 1))) fun σ11 => hk (inb ((gI r3 13 1)) (gL σ11 13 0)) <| hl (pC σ11 13 0 ((gI r3 13 1)) x1) fun σ13 => some σ13
set_option maxRecDepth 20000 in
set_option maxHeartbeats 4000000 in
theorem okX12_emit (l : Launch) (E : hc_E) (A : Nat → Prop) (d : Nat)  (hD : 5 ≤ d) {x1 : Int32} {σ : hc_St} {r : hc_St} (h : fm_X12_emit  x1 σ = some r) (am : Nat → Nat → Nat) : hc_M l hc_V0 yX12_emit (ws_ yX12_emit cX12_emit 2 none) d E A [.ref (E.2.1 13), .int x1] am [13] σ (.inl none) r := by
  have hd1 : 1 ≤ d := by omega
  refine hc_enter2 (own := RX12) [(0, .ref (E.2.1 13)), (1, .int x1)] pl_X12 rfl hc_V0_st hc_G0_nd rfl (Nat.le_of_ble_eq_true rfl) (fun X hC hem => ?_)
  unfold fm_X12_emit at h
  refine hr_aload_n hC dX12_emit_0 rfl ?_
  refine hr_gI hC F13_1 dX12_emit_1 q717 ?_
  refine hr_aload_n hC dX12_emit_4 rfl ?_
  refine hr_gA hC F13_0 rfl dX12_emit_5 q716 ?_
  refine hs_alen1 hC A13_0 dX12_emit_8 ?_
  obtain ⟨r3, e4, h⟩ := hx_bind h
  have J5 : ∀ am10, hc_At hc_V0 E 2 X 23 [(0, .ref (E.2.1 13)), (1, .int x1)] [] r3 am10 [] := by
    intro am10
    refine hr_aload_n hC dX12_emit_23 rfl ?_
    refine hr_gA hC F13_0 rfl dX12_emit_24 q716 ?_
    refine hr_aload_n hC dX12_emit_27 rfl ?_
    refine hr_dup hC dX12_emit_28 rfl ?_
    refine hr_gI hC F13_1 dX12_emit_29 q717 ?_
    refine hr_dup_x1 hC dX12_emit_32 rfl rfl ?_
    refine hr_iconst (v := 1) hC dX12_emit_33 rfl ?_
    refine hr_iadd hC dX12_emit_34 ?_
    obtain ⟨σ11, hσ11, h⟩ := hl_ok h
    refine hr_pI hC F13_1 PX12_1 dX12_emit_35 q717 ?_
    rw [← hσ11]
    refine hr_iload_n hC dX12_emit_38 rfl ?_
    obtain ⟨c12, h⟩ := hk_ok h
    obtain ⟨σ13, hσ13, h⟩ := hl_ok h
    refine hs_iast hC A13_0 c12 dX12_emit_39 ?_
    rw [← hσ13]
    obtain rfl := Option.some.inj h
    exact hr_vret hC dX12_emit_40
  clear h
  have h := e4
  refine hr_icmp_ne (x := _) hC 23 dX12_emit_9 (by decide) (fun c2 => ?_) (fun c2 => ?_)
  · rw [if_neg c2] at h
    obtain rfl := Option.some.inj h
    exact hr_sub _ rfl (J5 am)
  · rw [if_pos c2] at h
    refine hr_aload_n hC dX12_emit_12 rfl ?_
    refine hr_aload_n hC dX12_emit_13 rfl ?_
    refine hr_gA hC F13_0 rfl dX12_emit_14 q716 ?_
    obtain ⟨c7, h⟩ := hk_ok h
    obtain ⟨σ8, hσ8, h⟩ := hl_ok h
    refine hr_longer (okl_X12 l E A (d - 1) (by omega)) hC F13_0 rfl A13_0 PX12_0 (hc_mm rfl) c7 dX12_emit_17 q1892 dX12_emit_20 q716 pd_X12_longer q1893 q326 q1894 np_X12 (Nat.le_of_ble_eq_true rfl) hd1 (fun q9 => ?_)
    rw [← hσ8]
    obtain rfl := Option.some.inj h
    exact hr_sub _ rfl (J5 ((hc_up2 am 13 0 q9)))
/-- HomeCompiler$Emitter.store(IIII)V -/
def fm_X12_store  (x1 : Int32) (x2 : Int32) (x3 : Int32) (x4 : Int32) (σ : hc_St) : Option hc_St := Option.bind (fm_X12_emit ((((((((((((jshl ((((jshr x4 5)) &&& 127)) 25)) ||| ((jshl x3 20)))) ||| ((jshl x2 15)))) ||| ((jshl x1 12)))) ||| ((jshl ((x4 &&& 31)) 7)))) ||| 35)) σ) fun r1 => some r1
set_option maxRecDepth 20000 in
set_option maxHeartbeats 4000000 in
theorem okX12_store (l : Launch) (E : hc_E) (A : Nat → Prop) (d : Nat)  (hD : 6 ≤ d) {x1 : Int32} {x2 : Int32} {x3 : Int32} {x4 : Int32} {σ : hc_St} {r : hc_St} (h : fm_X12_store  x1 x2 x3 x4 σ = some r) (am : Nat → Nat → Nat) : hc_M l hc_V0 yX12_store (ws_ yX12_store cX12_store 5 none) d E A [.ref (E.2.1 13), .int x1, .int x2, .int x3, .int x4] am [13] σ (.inl none) r := by
  have hd1 : 1 ≤ d := by omega
  refine hc_enter2 (own := RX12) [(0, .ref (E.2.1 13)), (1, .int x1), (2, .int x2), (3, .int x3), (4, .int x4)] pl_X12 rfl hc_V0_st hc_G0_nd rfl (Nat.le_of_ble_eq_true rfl) (fun X hC hem => ?_)
  unfold fm_X12_store at h
  refine hr_aload_n hC dX12_store_0 rfl ?_
  refine hr_iload hC dX12_store_1 rfl ?_
  refine hr_iconst (v := 5) hC dX12_store_3 rfl ?_
  refine hr_ishr hC dX12_store_4 ?_
  refine hr_bipush (v := 127) hC dX12_store_5 rfl ?_
  refine hr_iand hC dX12_store_7 ?_
  refine hr_bipush (v := 25) hC dX12_store_8 rfl ?_
  refine hr_ishl hC dX12_store_10 ?_
  refine hr_iload_n hC dX12_store_11 rfl ?_
  refine hr_bipush (v := 20) hC dX12_store_12 rfl ?_
  refine hr_ishl hC dX12_store_14 ?_
  refine hr_ior hC dX12_store_15 ?_
  refine hr_iload_n hC dX12_store_16 rfl ?_
  refine hr_bipush (v := 15) hC dX12_store_17 rfl ?_
  refine hr_ishl hC dX12_store_19 ?_
  refine hr_ior hC dX12_store_20 ?_
  refine hr_iload_n hC dX12_store_21 rfl ?_
  refine hr_bipush (v := 12) hC dX12_store_22 rfl ?_
  refine hr_ishl hC dX12_store_24 ?_
  refine hr_ior hC dX12_store_25 ?_
  refine hr_iload hC dX12_store_26 rfl ?_
  refine hr_bipush (v := 31) hC dX12_store_28 rfl ?_
  refine hr_iand hC dX12_store_30 ?_
  refine hr_bipush (v := 7) hC dX12_store_31 rfl ?_
  refine hr_ishl hC dX12_store_33 ?_
  refine hr_ior hC dX12_store_34 ?_
  refine hr_bipush (v := 35) hC dX12_store_35 rfl ?_
  refine hr_ior hC dX12_store_37 ?_
  obtain ⟨r1, e2, h⟩ := hx_bind h
  refine hs_callV hC 13 [_] _ dX12_store_38 q1900 q1901 q1902 q326 q1903 np_X12 rfl OB_13 pd_X12_emit (Nat.le_of_ble_eq_true rfl) hd1 (okX12_emit l E A (d - 1)  (by omega)  e2 am) (hc_rb rfl) rfl (fun am3 ha4 => ?_)
  obtain rfl := Option.some.inj h
  exact hr_vret hC dX12_store_41
/-- HomeCompiler$Emitter.jump(II)V -/
def fm_X12_jump  (x1 : Int32) (x2 : Int32) (σ : hc_St) : Option hc_St := Option.bind (α := hc_St) (if (gI σ 13 6) = (nI (gL σ 13 4)) then (hk (hlo (gL σ 13 4) σ) <| hl (hlg σ 13 4) fun σ8 => hk (hlo (gL σ8 13 5) σ8) <| hl (hlg σ8 13 5) fun σ11 => some (σ11)) else (some (σ))) fun r3 => hk (inb ((gI r3 13 6)) (gL r3 13 4)) <| hl (pC r3 13 4 ((gI r3 13 6)) ((gI r3 13 1))) fun σ15 => hl (pI σ15 13 6 ((((gI σ15 13 6)) + 1))) fun σ16 => hk (inb ((gI σ15 13 6)) (gL σ16 13 5)) <| hl (pC σ16 13 5 ((gI σ15 13 6)) x2) fun σ18 => Option.bind (fm_X12_emit ((((jshl x1 7)) ||| 111)) σ18) fun r19 => some r19
set_option maxRecDepth 20000 in
set_option maxHeartbeats 4000000 in
theorem okX12_jump (l : Launch) (E : hc_E) (A : Nat → Prop) (d : Nat)  (hD : 6 ≤ d) {x1 : Int32} {x2 : Int32} {σ : hc_St} {r : hc_St} (h : fm_X12_jump  x1 x2 σ = some r) (am : Nat → Nat → Nat) : hc_M l hc_V0 yX12_jump (ws_ yX12_jump cX12_jump 3 none) d E A [.ref (E.2.1 13), .int x1, .int x2] am [13] σ (.inl none) r := by
  have hd1 : 1 ≤ d := by omega
  refine hc_enter2 (own := RX12) [(0, .ref (E.2.1 13)), (1, .int x1), (2, .int x2)] pl_X12 rfl hc_V0_st hc_G0_nd rfl (Nat.le_of_ble_eq_true rfl) (fun X hC hem => ?_)
  unfold fm_X12_jump at h
  refine hr_aload_n hC dX12_jump_0 rfl ?_
  refine hr_gI hC F13_6 dX12_jump_1 q722 ?_
  refine hr_aload_n hC dX12_jump_4 rfl ?_
  refine hr_gA hC F13_4 rfl dX12_jump_5 q720 ?_
  refine hs_alen1 hC A13_4 dX12_jump_8 ?_
  obtain ⟨r3, e4, h⟩ := hx_bind h
  have J5 : ∀ am13, hc_At hc_V0 E 3 X 34 [(0, .ref (E.2.1 13)), (1, .int x1), (2, .int x2)] [] r3 am13 [] := by
    intro am13
    refine hr_aload_n hC dX12_jump_34 rfl ?_
    refine hr_gA hC F13_4 rfl dX12_jump_35 q720 ?_
    refine hr_aload_n hC dX12_jump_38 rfl ?_
    refine hr_gI hC F13_6 dX12_jump_39 q722 ?_
    refine hr_aload_n hC dX12_jump_42 rfl ?_
    refine hr_gI hC F13_1 dX12_jump_43 q717 ?_
    obtain ⟨c14, h⟩ := hk_ok h
    obtain ⟨σ15, hσ15, h⟩ := hl_ok h
    refine hs_iast hC A13_4 c14 dX12_jump_46 ?_
    rw [← hσ15]
    refine hr_aload_n hC dX12_jump_47 rfl ?_
    refine hr_gA hC F13_5 rfl dX12_jump_48 q721 ?_
    refine hr_aload_n hC dX12_jump_51 rfl ?_
    refine hr_dup hC dX12_jump_52 rfl ?_
    refine hr_gI hC F13_6 dX12_jump_53 q722 ?_
    refine hr_dup_x1 hC dX12_jump_56 rfl rfl ?_
    refine hr_iconst (v := 1) hC dX12_jump_57 rfl ?_
    refine hr_iadd hC dX12_jump_58 ?_
    obtain ⟨σ16, hσ16, h⟩ := hl_ok h
    refine hr_pI hC F13_6 PX12_6 dX12_jump_59 q722 ?_
    rw [← hσ16]
    refine hr_iload_n hC dX12_jump_62 rfl ?_
    obtain ⟨c17, h⟩ := hk_ok h
    obtain ⟨σ18, hσ18, h⟩ := hl_ok h
    refine hs_iast hC A13_5 c17 dX12_jump_63 ?_
    rw [← hσ18]
    refine hr_aload_n hC dX12_jump_64 rfl ?_
    refine hr_iload_n hC dX12_jump_65 rfl ?_
    refine hr_bipush (v := 7) hC dX12_jump_66 rfl ?_
    refine hr_ishl hC dX12_jump_68 ?_
    refine hr_bipush (v := 111) hC dX12_jump_69 rfl ?_
    refine hr_ior hC dX12_jump_71 ?_
    obtain ⟨r19, e20, h⟩ := hx_bind h
    refine hs_callV hC 13 [_] _ dX12_jump_72 q1900 q1901 q1902 q326 q1903 np_X12 rfl OB_13 pd_X12_emit (Nat.le_of_ble_eq_true rfl) hd1 (okX12_emit l E A (d - 1)  (by omega)  e20 am13) (hc_rb rfl) rfl (fun am21 ha22 => ?_)
    obtain rfl := Option.some.inj h
    exact hr_vret hC dX12_jump_75
  clear h
  have h := e4
  refine hr_icmp_ne (x := _) hC 34 dX12_jump_9 (by decide) (fun c2 => ?_) (fun c2 => ?_)
  · rw [if_neg c2] at h
    obtain rfl := Option.some.inj h
    exact hr_sub _ rfl (J5 am)
  · rw [if_pos c2] at h
    refine hr_aload_n hC dX12_jump_12 rfl ?_
    refine hr_aload_n hC dX12_jump_13 rfl ?_
    refine hr_gA hC F13_4 rfl dX12_jump_14 q720 ?_
    obtain ⟨c7, h⟩ := hk_ok h
    obtain ⟨σ8, hσ8, h⟩ := hl_ok h
    refine hr_longer (okl_X12 l E A (d - 1) (by omega)) hC F13_4 rfl A13_4 PX12_4 (hc_mm rfl) c7 dX12_jump_17 q1892 dX12_jump_20 q720 pd_X12_longer q1893 q326 q1894 np_X12 (Nat.le_of_ble_eq_true rfl) hd1 (fun q9 => ?_)
    rw [← hσ8]
    refine hr_aload_n hC dX12_jump_23 rfl ?_
    refine hr_aload_n hC dX12_jump_24 rfl ?_
    refine hr_gA hC F13_5 rfl dX12_jump_25 q721 ?_
    obtain ⟨c10, h⟩ := hk_ok h
    obtain ⟨σ11, hσ11, h⟩ := hl_ok h
    refine hr_longer (okl_X12 l E A (d - 1) (by omega)) hC F13_5 rfl A13_5 PX12_5 (hc_mm rfl) c10 dX12_jump_28 q1892 dX12_jump_31 q721 pd_X12_longer q1893 q326 q1894 np_X12 (Nat.le_of_ble_eq_true rfl) hd1 (fun q12 => ?_)
    rw [← hσ11]
    obtain rfl := Option.some.inj h
    exact hr_sub _ rfl (J5 ((hc_up2 (hc_up2 am 13 4 q9) 13 5 q12)))
/-- HomeCompiler$Emitter.number(IIII)V -/
def fm_X12_number  (x1 : Int32) (x2 : Int32) (x3 : Int32) (x4 : Int32) (σ : hc_St) : Option hc_St := Option.bind (fm_X12_emit ((((((((((jshl ((x4 &&& 4095)) 20)) ||| ((jshl x3 15)))) ||| ((jshl x1 12)))) ||| ((jshl x2 7)))) ||| 19)) σ) fun r1 => some r1
set_option maxRecDepth 20000 in
set_option maxHeartbeats 4000000 in
theorem okX12_number (l : Launch) (E : hc_E) (A : Nat → Prop) (d : Nat)  (hD : 6 ≤ d) {x1 : Int32} {x2 : Int32} {x3 : Int32} {x4 : Int32} {σ : hc_St} {r : hc_St} (h : fm_X12_number  x1 x2 x3 x4 σ = some r) (am : Nat → Nat → Nat) : hc_M l hc_V0 yX12_number (ws_ yX12_number cX12_number 5 none) d E A [.ref (E.2.1 13), .int x1, .int x2, .int x3, .int x4] am [13] σ (.inl none) r := by
  have hd1 : 1 ≤ d := by omega
  refine hc_enter2 (own := RX12) [(0, .ref (E.2.1 13)), (1, .int x1), (2, .int x2), (3, .int x3), (4, .int x4)] pl_X12 rfl hc_V0_st hc_G0_nd rfl (Nat.le_of_ble_eq_true rfl) (fun X hC hem => ?_)
  unfold fm_X12_number at h
  refine hr_aload_n hC dX12_number_0 rfl ?_
  refine hr_iload hC dX12_number_1 rfl ?_
  refine hr_sipush (v := 4095) hC dX12_number_3 rfl ?_
  refine hr_iand hC dX12_number_6 ?_
  refine hr_bipush (v := 20) hC dX12_number_7 rfl ?_
  refine hr_ishl hC dX12_number_9 ?_
  refine hr_iload_n hC dX12_number_10 rfl ?_
  refine hr_bipush (v := 15) hC dX12_number_11 rfl ?_
  refine hr_ishl hC dX12_number_13 ?_
  refine hr_ior hC dX12_number_14 ?_
  refine hr_iload_n hC dX12_number_15 rfl ?_
  refine hr_bipush (v := 12) hC dX12_number_16 rfl ?_
  refine hr_ishl hC dX12_number_18 ?_
  refine hr_ior hC dX12_number_19 ?_
  refine hr_iload_n hC dX12_number_20 rfl ?_
  refine hr_bipush (v := 7) hC dX12_number_21 rfl ?_
  refine hr_ishl hC dX12_number_23 ?_
  refine hr_ior hC dX12_number_24 ?_
  refine hr_bipush (v := 19) hC dX12_number_25 rfl ?_
  refine hr_ior hC dX12_number_27 ?_
  obtain ⟨r1, e2, h⟩ := hx_bind h
  refine hs_callV hC 13 [_] _ dX12_number_28 q1900 q1901 q1902 q326 q1903 np_X12 rfl OB_13 pd_X12_emit (Nat.le_of_ble_eq_true rfl) hd1 (okX12_emit l E A (d - 1)  (by omega)  e2 am) (hc_rb rfl) rfl (fun am3 ha4 => ?_)
  obtain rfl := Option.some.inj h
  exact hr_vret hC dX12_number_31
/-- HomeCompiler$Emitter.upper(I)I -/
def fm_X12_upper  (x0 : Int32) (σ : hc_St) : Option Int32 := some ((x0 - ((jshr ((jshl x0 20)) 20))))
set_option maxRecDepth 20000 in
set_option maxHeartbeats 4000000 in
theorem okX12_upper (l : Launch) (E : hc_E) (A : Nat → Prop) (d : Nat)  (hD : 1 ≤ d) {x0 : Int32} {σ : hc_St} {r : Int32} (h : fm_X12_upper  x0 σ = some r) (am : Nat → Nat → Nat) : hc_M l hc_V0 yX12_upper (ws_ yX12_upper cX12_upper 1 (some .int)) d E A [.int x0] am [] σ (.inl (some (.int r))) σ := by
  have hd1 : 1 ≤ d := by omega
  refine hc_enter2 (own := RX12) [(0, .int x0)] pl_X12 rfl hc_V0_st hc_G0_nd rfl (Nat.le_of_ble_eq_true rfl) (fun X hC hem => ?_)
  unfold fm_X12_upper at h
  refine hr_iload_n hC dX12_upper_0 rfl ?_
  refine hr_iload_n hC dX12_upper_1 rfl ?_
  refine hr_bipush (v := 20) hC dX12_upper_2 rfl ?_
  refine hr_ishl hC dX12_upper_4 ?_
  refine hr_bipush (v := 20) hC dX12_upper_5 rfl ?_
  refine hr_ishr hC dX12_upper_7 ?_
  refine hr_isub hC dX12_upper_8 ?_
  obtain rfl := Option.some.inj h
  exact hr_iret hC dX12_upper_9
/-- HomeCompiler$Emitter.setLong(II)V -/
def fm_X12_setLong  (x1 : Int32) (x2 : Int32) (σ : hc_St) : Option hc_St := Option.bind (fm_X12_upper x2 σ) fun r1 => Option.bind (fm_X12_emit ((((r1 ||| ((jshl x1 7)))) ||| 55)) σ) fun r5 => Option.bind (fm_X12_number 0 x1 x1 ((jshr ((jshl x2 20)) 20)) r5) fun r9 => some r9
set_option maxRecDepth 20000 in
set_option maxHeartbeats 4000000 in
theorem okX12_setLong (l : Launch) (E : hc_E) (A : Nat → Prop) (d : Nat)  (hD : 7 ≤ d) {x1 : Int32} {x2 : Int32} {σ : hc_St} {r : hc_St} (h : fm_X12_setLong  x1 x2 σ = some r) (am : Nat → Nat → Nat) : hc_M l hc_V0 yX12_setLong (ws_ yX12_setLong cX12_setLong 3 none) d E A [.ref (E.2.1 13), .int x1, .int x2] am [13] σ (.inl none) r := by
  have hd1 : 1 ≤ d := by omega
  refine hc_enter2 (own := RX12) [(0, .ref (E.2.1 13)), (1, .int x1), (2, .int x2)] pl_X12 rfl hc_V0_st hc_G0_nd rfl (Nat.le_of_ble_eq_true rfl) (fun X hC hem => ?_)
  unfold fm_X12_setLong at h
  refine hr_aload_n hC dX12_setLong_0 rfl ?_
  refine hr_iload_n hC dX12_setLong_1 rfl ?_
  obtain ⟨r1, e2, h⟩ := hx_bind h
  refine hs_callS0 hC [_] _ dX12_setLong_2 q1920 q1921 q326 q1922 np_X12 rfl pd_X12_upper (Nat.le_of_ble_eq_true rfl) hd1 (okX12_upper l E A (d - 1)  (by omega)  e2 am) rfl ?_
  refine hr_iload_n hC dX12_setLong_5 rfl ?_
  refine hr_bipush (v := 7) hC dX12_setLong_6 rfl ?_
  refine hr_ishl hC dX12_setLong_8 ?_
  refine hr_ior hC dX12_setLong_9 ?_
  refine hr_bipush (v := 55) hC dX12_setLong_10 rfl ?_
  refine hr_ior hC dX12_setLong_12 ?_
  obtain ⟨r5, e6, h⟩ := hx_bind h
  refine hs_callV hC 13 [_] _ dX12_setLong_13 q1900 q1901 q1902 q326 q1903 np_X12 rfl OB_13 pd_X12_emit (Nat.le_of_ble_eq_true rfl) hd1 (okX12_emit l E A (d - 1)  (by omega)  e6 am) (hc_rb rfl) rfl (fun am7 ha8 => ?_)
  refine hr_aload_n hC dX12_setLong_16 rfl ?_
  refine hr_iconst (v := 0) hC dX12_setLong_17 rfl ?_
  refine hr_iload_n hC dX12_setLong_18 rfl ?_
  refine hr_iload_n hC dX12_setLong_19 rfl ?_
  refine hr_iload_n hC dX12_setLong_20 rfl ?_
  refine hr_bipush (v := 20) hC dX12_setLong_21 rfl ?_
  refine hr_ishl hC dX12_setLong_23 ?_
  refine hr_bipush (v := 20) hC dX12_setLong_24 rfl ?_
  refine hr_ishr hC dX12_setLong_26 ?_
  obtain ⟨r9, e10, h⟩ := hx_bind h
  refine hs_callV hC 13 [_, _, _, _] _ dX12_setLong_27 q1912 q1913 q1914 q326 q1915 np_X12 rfl OB_13 pd_X12_number (Nat.le_of_ble_eq_true rfl) hd1 (okX12_number l E A (d - 1)  (by omega)  e10 am7) (hc_rb rfl) rfl (fun am11 ha12 => ?_)
  obtain rfl := Option.some.inj h
  exact hr_vret hC dX12_setLong_30
/-- HomeCompiler$Emitter.set(II)V -/
def fm_X12_set  (x1 : Int32) (x2 : Int32) (σ : hc_St) : Option hc_St := Option.bind (α := hc_St) (if x2 < (-2048) then (Option.bind (fm_X12_setLong x1 x2 σ) fun r7 => hl (α := Int32) ((if (jshl x2 20) = 0 then 1 else 0)) fun v13 => hl (pI r7 13 1 ((((gI r7 13 1)) - v13))) fun σ14 => some (σ14)) else (if 2048 ≤ x2 then (Option.bind (fm_X12_setLong x1 x2 σ) fun r20 => hl (α := Int32) ((if (jshl x2 20) = 0 then 1 else 0)) fun v26 => hl (pI r20 13 1 ((((gI r20 13 1)) - v26))) fun σ27 => some (σ27)) else (Option.bind (fm_X12_number 0 x1 0 x2 σ) fun r31 => some (r31)))) fun r3 => some r3
set_option maxRecDepth 20000 in
set_option maxHeartbeats 4000000 in
theorem okX12_set (l : Launch) (E : hc_E) (A : Nat → Prop) (d : Nat)  (hD : 8 ≤ d) {x1 : Int32} {x2 : Int32} {σ : hc_St} {r : hc_St} (h : fm_X12_set  x1 x2 σ = some r) (am : Nat → Nat → Nat) : hc_M l hc_V0 yX12_set (ws_ yX12_set cX12_set 3 none) d E A [.ref (E.2.1 13), .int x1, .int x2] am [13] σ (.inl none) r := by
  have hd1 : 1 ≤ d := by omega
  refine hc_enter2 (own := RX12) [(0, .ref (E.2.1 13)), (1, .int x1), (2, .int x2)] pl_X12 rfl hc_V0_st hc_G0_nd rfl (Nat.le_of_ble_eq_true rfl) (fun X hC hem => ?_)
  unfold fm_X12_set at h
  refine hr_iload_n hC dX12_set_0 rfl ?_
  refine hr_sipush (v := (-2048)) hC dX12_set_1 rfl ?_
  obtain ⟨r3, e4, h⟩ := hx_bind h
  have J5 : ∀ am35, hc_At hc_V0 E 3 X 52 [] [] r3 am35 [] := by
    intro am35
    obtain rfl := Option.some.inj h
    exact hr_vret hC dX12_set_52
  clear h
  have h := e4
  refine hr_icmp_lt (x := _) hC 25 dX12_set_4 (by decide) (fun c2 => ?_) (fun c2 => ?_)
  · rw [if_pos c2] at h
    refine hr_aload_n hC dX12_set_25 rfl ?_
    refine hr_iload_n hC dX12_set_26 rfl ?_
    refine hr_iload_n hC dX12_set_27 rfl ?_
    obtain ⟨r7, e8, h⟩ := hx_bind h
    refine hs_callV hC 13 [_, _] _ dX12_set_28 q1916 q1918 qs96 q326 q1919 np_X12 rfl OB_13 pd_X12_setLong (Nat.le_of_ble_eq_true rfl) hd1 (okX12_setLong l E A (d - 1)  (by omega)  e8 am) (hc_rb rfl) rfl (fun am9 ha10 => ?_)
    refine hr_aload_n hC dX12_set_31 rfl ?_
    refine hr_dup hC dX12_set_32 rfl ?_
    refine hr_gI hC F13_1 dX12_set_33 q717 ?_
    refine hr_iload_n hC dX12_set_36 rfl ?_
    refine hr_bipush (v := 20) hC dX12_set_37 rfl ?_
    refine hr_ishl hC dX12_set_39 ?_
    obtain ⟨v13, hv13, h⟩ := hl_ok h
    have J15 : ∀ w16 : Int32, (if (jshl x2 20) = 0 then 1 else 0) = w16 → hc_At hc_V0 E 3 X 48 [] [.int w16, .int (gI r7 13 1), .ref (E.2.1 13)] r7 am9 [] := by
      intro w16 hw16
      obtain rfl := hv13.trans hw16
      refine hr_isub hC dX12_set_48 ?_
      obtain ⟨σ14, hσ14, h⟩ := hl_ok h
      refine hr_pI hC F13_1 PX12_1 dX12_set_49 q717 ?_
      rw [← hσ14]
      obtain rfl := Option.some.inj h
      exact hr_sub _ rfl (J5 am9)
    refine hr_if_ne (x := _) hC 47 dX12_set_40 (by decide) (fun c17 => ?_) (fun c17 => ?_)
    · refine hr_iconst (v := 0) hC dX12_set_47 rfl ?_
      exact hr_sub _ rfl (J15 _ (by first | (rw [if_neg c17]; done) | (simp only [if_neg c17]; done) | rfl))
    · refine hr_iconst (v := 1) hC dX12_set_43 rfl ?_
      refine hr_goto hC 48 dX12_set_44 (by decide) ?_
      exact hr_sub _ rfl (J15 _ (by first | (rw [if_pos c17]; done) | (simp only [if_pos c17]; done) | rfl))
  · rw [if_neg c2] at h
    refine hr_iload_n hC dX12_set_7 rfl ?_
    refine hr_sipush (v := 2048) hC dX12_set_8 rfl ?_
    refine hr_icmp_ge (x := _) hC 25 dX12_set_11 (by decide) (fun c19 => ?_) (fun c19 => ?_)
    · rw [if_pos c19] at h
      refine hr_aload_n hC dX12_set_25 rfl ?_
      refine hr_iload_n hC dX12_set_26 rfl ?_
      refine hr_iload_n hC dX12_set_27 rfl ?_
      obtain ⟨r20, e21, h⟩ := hx_bind h
      refine hs_callV hC 13 [_, _] _ dX12_set_28 q1916 q1918 qs96 q326 q1919 np_X12 rfl OB_13 pd_X12_setLong (Nat.le_of_ble_eq_true rfl) hd1 (okX12_setLong l E A (d - 1)  (by omega)  e21 am) (hc_rb rfl) rfl (fun am22 ha23 => ?_)
      refine hr_aload_n hC dX12_set_31 rfl ?_
      refine hr_dup hC dX12_set_32 rfl ?_
      refine hr_gI hC F13_1 dX12_set_33 q717 ?_
      refine hr_iload_n hC dX12_set_36 rfl ?_
      refine hr_bipush (v := 20) hC dX12_set_37 rfl ?_
      refine hr_ishl hC dX12_set_39 ?_
      obtain ⟨v26, hv26, h⟩ := hl_ok h
      have J28 : ∀ w29 : Int32, (if (jshl x2 20) = 0 then 1 else 0) = w29 → hc_At hc_V0 E 3 X 48 [] [.int w29, .int (gI r20 13 1), .ref (E.2.1 13)] r20 am22 [] := by
        intro w29 hw29
        obtain rfl := hv26.trans hw29
        refine hr_isub hC dX12_set_48 ?_
        obtain ⟨σ27, hσ27, h⟩ := hl_ok h
        refine hr_pI hC F13_1 PX12_1 dX12_set_49 q717 ?_
        rw [← hσ27]
        obtain rfl := Option.some.inj h
        exact hr_sub _ rfl (J5 am22)
      refine hr_if_ne (x := _) hC 47 dX12_set_40 (by decide) (fun c30 => ?_) (fun c30 => ?_)
      · refine hr_iconst (v := 0) hC dX12_set_47 rfl ?_
        exact hr_sub _ rfl (J28 _ (by first | (rw [if_neg c30]; done) | (simp only [if_neg c30]; done) | rfl))
      · refine hr_iconst (v := 1) hC dX12_set_43 rfl ?_
        refine hr_goto hC 48 dX12_set_44 (by decide) ?_
        exact hr_sub _ rfl (J28 _ (by first | (rw [if_pos c30]; done) | (simp only [if_pos c30]; done) | rfl))
    · rw [if_neg c19] at h
      refine hr_aload_n hC dX12_set_14 rfl ?_
      refine hr_iconst (v := 0) hC dX12_set_15 rfl ?_
      refine hr_iload_n hC dX12_set_16 rfl ?_
      refine hr_iconst (v := 0) hC dX12_set_17 rfl ?_
      refine hr_iload_n hC dX12_set_18 rfl ?_
      obtain ⟨r31, e32, h⟩ := hx_bind h
      refine hs_callV hC 13 [_, _, _, _] _ dX12_set_19 q1912 q1913 q1914 q326 q1915 np_X12 rfl OB_13 pd_X12_number (Nat.le_of_ble_eq_true rfl) hd1 (okX12_number l E A (d - 1)  (by omega)  e32 am) (hc_rb rfl) rfl (fun am33 ha34 => ?_)
      refine hr_goto hC 52 dX12_set_22 (by decide) ?_
      obtain rfl := Option.some.inj h
      exact hr_sub _ rfl (J5 am33)
/-- HomeCompiler$Emitter.call()V -/
def fm_X12_call   (σ : hc_St) : Option hc_St := Option.bind (fm_X12_emit 115 σ) fun r1 => some r1
set_option maxRecDepth 20000 in
set_option maxHeartbeats 4000000 in
theorem okX12_call (l : Launch) (E : hc_E) (A : Nat → Prop) (d : Nat)  (hD : 6 ≤ d)  {σ : hc_St} {r : hc_St} (h : fm_X12_call   σ = some r) (am : Nat → Nat → Nat) : hc_M l hc_V0 yX12_call (ws_ yX12_call cX12_call 1 none) d E A [.ref (E.2.1 13)] am [13] σ (.inl none) r := by
  have hd1 : 1 ≤ d := by omega
  refine hc_enter2 (own := RX12) [(0, .ref (E.2.1 13))] pl_X12 rfl hc_V0_st hc_G0_nd rfl (Nat.le_of_ble_eq_true rfl) (fun X hC hem => ?_)
  unfold fm_X12_call at h
  refine hr_aload_n hC dX12_call_0 rfl ?_
  refine hr_bipush (v := 115) hC dX12_call_1 rfl ?_
  obtain ⟨r1, e2, h⟩ := hx_bind h
  refine hs_callV hC 13 [_] _ dX12_call_3 q1900 q1901 q1902 q326 q1903 np_X12 rfl OB_13 pd_X12_emit (Nat.le_of_ble_eq_true rfl) hd1 (okX12_emit l E A (d - 1)  (by omega)  e2 am) (hc_rb rfl) rfl (fun am3 ha4 => ?_)
  obtain rfl := Option.some.inj h
  exact hr_vret hC dX12_call_6
/-- HomeCompiler$Emitter.here(I)V -/
def fm_X12_here  (x1 : Int32) (σ : hc_St) : Option hc_St := hk (inb x1 (gL σ 13 2)) <| hl (pC σ 13 2 x1 ((gI σ 13 1))) fun σ2 => some σ2
set_option maxRecDepth 20000 in
set_option maxHeartbeats 4000000 in
theorem okX12_here (l : Launch) (E : hc_E) (A : Nat → Prop) (d : Nat)  (hD : 1 ≤ d) {x1 : Int32} {σ : hc_St} {r : hc_St} (h : fm_X12_here  x1 σ = some r) (am : Nat → Nat → Nat) : hc_M l hc_V0 yX12_here (ws_ yX12_here cX12_here 2 none) d E A [.ref (E.2.1 13), .int x1] am [] σ (.inl none) r := by
  have hd1 : 1 ≤ d := by omega
  refine hc_enter2 (own := RX12) [(0, .ref (E.2.1 13)), (1, .int x1)] pl_X12 rfl hc_V0_st hc_G0_nd rfl (Nat.le_of_ble_eq_true rfl) (fun X hC hem => ?_)
  unfold fm_X12_here at h
  refine hr_aload_n hC dX12_here_0 rfl ?_
  refine hr_gA hC F13_2 rfl dX12_here_1 q718 ?_
  refine hr_iload_n hC dX12_here_4 rfl ?_
  refine hr_aload_n hC dX12_here_5 rfl ?_
  refine hr_gI hC F13_1 dX12_here_6 q717 ?_
  obtain ⟨c1, h⟩ := hk_ok h
  obtain ⟨σ2, hσ2, h⟩ := hl_ok h
  refine hs_iast hC A13_2 c1 dX12_here_9 ?_
  rw [← hσ2]
  obtain rfl := Option.some.inj h
  exact hr_vret hC dX12_here_10
/-- HomeCompiler$Checker.node(I)I -/
def fm_X8_node  (x1 : Int32) (σ : hc_St) : Option Int32 := hk (inb x1 (gL σ 8 7)) <| some ((gC σ 8 7 x1))
set_option maxRecDepth 20000 in
set_option maxHeartbeats 4000000 in
theorem okX8_node (l : Launch) (E : hc_E) (A : Nat → Prop) (d : Nat)  (hD : 1 ≤ d) {x1 : Int32} {σ : hc_St} {r : Int32} (h : fm_X8_node  x1 σ = some r) (am : Nat → Nat → Nat) : hc_M l hc_V0 yX8_node (ws_ yX8_node cX8_node 2 (some .int)) d E A [.ref (E.2.1 8), .int x1] am [] σ (.inl (some (.int r))) σ := by
  have hd1 : 1 ≤ d := by omega
  refine hc_enter2 (own := RX8) [(0, .ref (E.2.1 8)), (1, .int x1)] pl_X8 rfl hc_V0_st hc_G0_nd rfl (Nat.le_of_ble_eq_true rfl) (fun X hC hem => ?_)
  unfold fm_X8_node at h
  refine hr_aload_n hC dX8_node_0 rfl ?_
  refine hr_gA hC F8_7 rfl dX8_node_1 q668 ?_
  refine hr_iload_n hC dX8_node_4 rfl ?_
  obtain ⟨c1, h⟩ := hk_ok h
  refine hs_iald hC A8_7 c1 dX8_node_5 ?_
  obtain rfl := Option.some.inj h
  exact hr_iret hC dX8_node_6
/-- HomeCompiler$Homes.room()V -/
def fm_X15_room   (σ : hc_St) : Option hc_St := Option.bind (fm_X11_count  σ) fun r1 => Option.bind (α := hc_St) (if r1 ≤ (nI (gL σ 16 2)) then (some (σ)) else (Option.bind (fm_X11_count  σ) fun r11 => hk (hna ((2 * r11)) σ) <| hl (pU σ 1 ((2 * r11)).toNatClampNeg) fun σ17 => hl (pA σ17 16 2 (((2 * r11)).toNatClampNeg) (fun _ => 0)) fun σ18 => hk (hna ((2 * r11)) σ18) <| hl (pU σ18 1 ((2 * r11)).toNatClampNeg) fun σ21 => hl (pA σ21 16 3 (((2 * r11)).toNatClampNeg) (fun _ => 0)) fun σ22 => hk (hna ((2 * r11)) σ22) <| hl (pU σ22 1 ((2 * r11)).toNatClampNeg) fun σ25 => hl (pA σ25 16 4 (((2 * r11)).toNatClampNeg) (fun _ => 0)) fun σ26 => hk (hna ((2 * r11)) σ26) <| hl (pU σ26 1 ((2 * r11)).toNatClampNeg) fun σ29 => hl (pA σ29 16 5 (((2 * r11)).toNatClampNeg) (fun _ => 0)) fun σ30 => some (σ30))) fun r7 => some r7
set_option maxRecDepth 20000 in
set_option maxHeartbeats 4000000 in
theorem okX15_room (l : Launch) (E : hc_E) (A : Nat → Prop) (d : Nat)  (hD : 2 ≤ d)  {σ : hc_St} {r : hc_St} (h : fm_X15_room   σ = some r) (am : Nat → Nat → Nat) : hc_M l hc_V0 yX15_room (ws_ yX15_room cX15_room 2 none) d E A [.ref (E.2.1 16)] am [16] σ (.inl none) r := by
  have hd1 : 1 ≤ d := by omega
  refine hc_enter2 (own := RX15) [(0, .ref (E.2.1 16))] pl_X15 rfl hc_V0_st hc_G0_nd rfl (Nat.le_of_ble_eq_true rfl) (fun X hC hem => ?_)
  unfold fm_X15_room at h
  refine hr_aload_n hC dX15_room_0 rfl ?_
  refine hr_gO 11 hC F16_1 rfl dX15_room_1 q768 ?_
  obtain ⟨r1, e2, h⟩ := hx_bind h
  refine hs_callV0 hC 11 [] _ dX15_room_4 q1947 q1864 q1865 q325 q1866 np_X11 rfl OB_11 pd_X11_count (Nat.le_of_ble_eq_true rfl) hd1 (okX11_count l E A (d - 1)  (by omega)  e2 am) rfl ?_
  refine hr_aload_n hC dX15_room_7 rfl ?_
  refine hr_gA hC F16_2 rfl dX15_room_8 q769 ?_
  refine hs_alen1 hC A16_2 dX15_room_11 ?_
  obtain ⟨r7, e8, h⟩ := hx_bind h
  have J9 : ∀ am31, hc_At hc_V0 E 2 X 53 [] [] r7 am31 [] := by
    intro am31
    obtain rfl := Option.some.inj h
    exact hr_vret hC dX15_room_53
  clear h
  have h := e8
  refine hr_icmp_le (x := _) hC 53 dX15_room_12 (by decide) (fun c6 => ?_) (fun c6 => ?_)
  · rw [if_pos c6] at h
    obtain rfl := Option.some.inj h
    exact hr_sub _ rfl (J9 am)
  · rw [if_neg c6] at h
    refine hr_iconst (v := 2) hC dX15_room_15 rfl ?_
    refine hr_aload_n hC dX15_room_16 rfl ?_
    refine hr_gO 11 hC F16_1 rfl dX15_room_17 q768 ?_
    obtain ⟨r11, e12, h⟩ := hx_bind h
    refine hs_callV0 hC 11 [] _ dX15_room_20 q1947 q1864 q1865 q325 q1866 np_X11 rfl OB_11 pd_X11_count (Nat.le_of_ble_eq_true rfl) hd1 (okX11_count l E A (d - 1)  (by omega)  e12 am) rfl ?_
    refine hr_imul hC dX15_room_23 ?_
    refine hr_istore_n hC dX15_room_24 (by decide) ?_
    refine hr_aload_n hC dX15_room_25 rfl ?_
    refine hr_iload_n hC dX15_room_26 rfl ?_
    obtain ⟨c15, h⟩ := hk_ok h
    obtain ⟨σ17, hσ17, h⟩ := hl_ok h
    refine hs_newI hC dX15_room_27 c15 (fun q16 => ?_)
    rw [← hσ17]
    obtain ⟨σ18, hσ18, h⟩ := hl_ok h
    refine hr_pA hC F16_2 rfl A16_2 PX15_2 (hc_mm rfl) dX15_room_29 q769 ?_
    rw [← hσ18]
    refine hr_aload_n hC dX15_room_32 rfl ?_
    refine hr_iload_n hC dX15_room_33 rfl ?_
    obtain ⟨c19, h⟩ := hk_ok h
    obtain ⟨σ21, hσ21, h⟩ := hl_ok h
    refine hs_newI hC dX15_room_34 c19 (fun q20 => ?_)
    rw [← hσ21]
    obtain ⟨σ22, hσ22, h⟩ := hl_ok h
    refine hr_pA hC F16_3 rfl A16_3 PX15_3 (hc_mm rfl) dX15_room_36 q770 ?_
    rw [← hσ22]
    refine hr_aload_n hC dX15_room_39 rfl ?_
    refine hr_iload_n hC dX15_room_40 rfl ?_
    obtain ⟨c23, h⟩ := hk_ok h
    obtain ⟨σ25, hσ25, h⟩ := hl_ok h
    refine hs_newI hC dX15_room_41 c23 (fun q24 => ?_)
    rw [← hσ25]
    obtain ⟨σ26, hσ26, h⟩ := hl_ok h
    refine hr_pA hC F16_4 rfl A16_4 PX15_4 (hc_mm rfl) dX15_room_43 q771 ?_
    rw [← hσ26]
    refine hr_aload_n hC dX15_room_46 rfl ?_
    refine hr_iload_n hC dX15_room_47 rfl ?_
    obtain ⟨c27, h⟩ := hk_ok h
    obtain ⟨σ29, hσ29, h⟩ := hl_ok h
    refine hs_newI hC dX15_room_48 c27 (fun q28 => ?_)
    rw [← hσ29]
    obtain ⟨σ30, hσ30, h⟩ := hl_ok h
    refine hr_pA hC F16_5 rfl A16_5 PX15_5 (hc_mm rfl) dX15_room_50 q772 ?_
    rw [← hσ30]
    obtain rfl := Option.some.inj h
    exact hr_sub _ rfl (J9 ((hc_up2 (hc_up2 (hc_up2 (hc_up2 am 16 2 q16) 16 3 q20) 16 4 q24) 16 5 q28)))
def okg_X15_weigh (l : Launch) (E : hc_E) (A : Nat → Prop) (d : Nat) (am : Nat → Nat → Nat) (w : Nat) (a : List Int32) (σ : hc_St) (r : (Int32 × hc_St)) : Prop := match w with
  | 0 => hc_M l hc_V0 yX15_weigh (ws_ yX15_weigh cX15_weigh 8 none) d E A [.ref (E.2.1 16), .int (a.getD 0 0), .int (a.getD 1 0)] am [] σ (.inl (none)) r.2
  | _ => True
def lp_X15_weigh_118 (n : Nat) (k0 : Nat) (rec : Nat → List Int32 → hc_St → Option (Int32 × hc_St)) : Nat → Int32 → Int32 → hc_St → Option (hc_St)
  | 0, _, _, _ => none
  | m + 1, y6, y7, σ => if y7 = (-1) then (some (σ)) else (Option.bind (rec 0 [y7, y6] σ) fun r39 => Option.bind (fm_X6_next y7 r39.2) fun r43 => lp_X15_weigh_118 n k0 rec m y6 r43 r39.2)
/-- HomeCompiler$Homes.weigh(II)V -/
def bd_X15_weigh (n : Nat) (k0 : Nat) (rec : Nat → List Int32 → hc_St → Option (Int32 × hc_St)) (x1 : Int32) (x2 : Int32) (σ : hc_St) : Option (Int32 × hc_St) := Option.bind (fm_X6_kind x1 σ) fun r1 => hl (α := Int32) ((if r1 = 38 then 1 else (if r1 = 40 then 1 else 0))) fun v7 => Option.bind (α := hc_St) (if v7 = 0 then (some (σ)) else (Option.bind (fm_X6_extra x1 σ) fun r14 => if r14 < 0 then (some (σ)) else (Option.bind (fm_X6_extra x1 σ) fun r20 => hk (inb r20 (gL σ 16 2)) <| hk (inb r20 (gL σ 16 2)) <| hl (pC σ 16 2 r20 ((((gC σ 16 2 r20)) + x2))) fun σ26 => some (σ26)))) fun r10 => hl (α := Int32) ((if r1 = 14 then 1 else (if r1 = 15 then 1 else (if r1 = 16 then 1 else 0)))) fun v29 => hl (α := Int32) ((if v29 = 0 then x2 else (if 4096 ≤ x2 then x2 else (8 * x2)))) fun v32 => Option.bind (fm_X6_first x1 r10) fun r33 => Option.bind (lp_X15_weigh_118 n k0 rec n v32 r33 r10) fun r47 => some (0, r47)
set_option maxRecDepth 20000 in
set_option maxHeartbeats 4000000 in
theorem ll_X15_weigh_118 {l : Launch} {E : hc_E} {A : Nat → Prop} {am : Nat → Nat → Nat} {d : Nat} {kk : Nat} {X : hc_X} (n : Nat) (k0 : Nat) (rec : Nat → List Int32 → hc_St → Option (Int32 × hc_St)) (hD : kk + 2 ≤ d) (hem : X.2.2.2.2.2.2.2.2.2.1.exceptionTable.isEmpty = true) (IH : ∀ (w : Nat) (a : List Int32) (σ : hc_St) (r : (Int32 × hc_St)), rec w a σ = some r → ∀ am, okg_X15_weigh l E A (d - 1) am w a σ r) {oc : hc_Oc} {σe : hc_St} (hC : hc_C hc_V0 E cX15_weigh 8 RX15 none d oc σe (l, A, am, []) X) : ∀ (m : Nat) (σ : hc_St) (y6 : Int32) (y7 : Int32) (rl : hc_St) (am1 : Nat → Nat → Nat), lp_X15_weigh_118 n k0 rec m y6 y7 σ = some rl → (hc_At hc_V0 E 8 X 146 [] [] rl am1 []) → hc_At hc_V0 E 8 X 118 [(0, .ref (E.2.1 16)), (6, .int y6), (7, .int y7)] [] σ am1 [] := by
  have hd1 : 1 ≤ d := by omega
  intro m
  induction m with
  | zero =>
    intro σ y6 y7 rl am1 h
    cases h
  | succ m ih =>
    intro σ y6 y7 rl am1 h JX
    rw [lp_X15_weigh_118] at h
    refine hr_iload hC dX15_weigh_118 rfl ?_
    refine hr_iconst (v := (-1)) hC dX15_weigh_120 rfl ?_
    refine hr_icmp_eq (x := _) hC 146 dX15_weigh_121 (by decide) (fun c38 => ?_) (fun c38 => ?_)
    · rw [if_pos c38] at h
      obtain rfl := Option.some.inj h
      exact hr_sub _ rfl (JX)
    · rw [if_neg c38] at h
      refine hr_aload_n hC dX15_weigh_124 rfl ?_
      refine hr_iload hC dX15_weigh_125 rfl ?_
      refine hr_iload hC dX15_weigh_127 rfl ?_
      obtain ⟨r39, e40, h⟩ := hx_bind h
      refine hs_callV0 hC 16 [_, _] _ dX15_weigh_129 q1949 q1951 qs99 q329 q1952 np_X15 rfl OB_16 pd_X15_weigh (Nat.le_of_ble_eq_true rfl) hd1 (IH _ _ _ _ e40 am1) rfl ?_
      refine hr_aload_n hC dX15_weigh_132 rfl ?_
      refine hr_gO 6 hC F16_0 rfl dX15_weigh_133 q767 ?_
      refine hr_iload hC dX15_weigh_136 rfl ?_
      obtain ⟨r43, e44, h⟩ := hx_bind h
      refine hs_callV0 hC 6 [_] _ dX15_weigh_138 q1956 q1603 q1604 q320 q1605 np_X6 rfl OB_6 pd_X6_next (Nat.le_of_ble_eq_true rfl) hd1 (okX6_next l E A (d - 1)  (by omega)  e44 am1) rfl ?_
      refine hr_istore hC dX15_weigh_141 (by decide) ?_
      refine hr_goto hC 118 dX15_weigh_143 (by decide) ?_
      exact hr_sub _ rfl (ih _ _ _ _ am1 h JX)
set_option maxRecDepth 20000 in
set_option maxHeartbeats 4000000 in
theorem okbX15_weigh (l : Launch) (E : hc_E) (A : Nat → Prop) (d : Nat) {kk : Nat} (n : Nat) (k0 : Nat) (rec : Nat → List Int32 → hc_St → Option (Int32 × hc_St)) (hD : kk + 2 ≤ d) (IH : ∀ (w : Nat) (a : List Int32) (σ : hc_St) (r : (Int32 × hc_St)), rec w a σ = some r → ∀ am, okg_X15_weigh l E A (d - 1) am w a σ r) {x1 : Int32} {x2 : Int32} {σ : hc_St} {r : (Int32 × hc_St)} (h : bd_X15_weigh n k0 rec x1 x2 σ = some r) (am : Nat → Nat → Nat) : hc_M l hc_V0 yX15_weigh (ws_ yX15_weigh cX15_weigh 8 none) d E A [.ref (E.2.1 16), .int x1, .int x2] am [] σ (.inl (none)) r.2 := by
  have hd1 : 1 ≤ d := by omega
  refine hc_enter2 (own := RX15) [(0, .ref (E.2.1 16)), (1, .int x1), (2, .int x2)] pl_X15 rfl hc_V0_st hc_G0_nd rfl (Nat.le_of_ble_eq_true rfl) (fun X hC hem => ?_)
  unfold bd_X15_weigh at h
  refine hr_aload_n hC dX15_weigh_0 rfl ?_
  refine hr_gO 6 hC F16_0 rfl dX15_weigh_1 q767 ?_
  refine hr_iload_n hC dX15_weigh_4 rfl ?_
  obtain ⟨r1, e2, h⟩ := hx_bind h
  refine hs_callV0 hC 6 [_] _ dX15_weigh_5 q1953 q1369 q1370 q320 q1371 np_X6 rfl OB_6 pd_X6_kind (Nat.le_of_ble_eq_true rfl) hd1 (okX6_kind l E A (d - 1)  (by omega)  e2 am) rfl ?_
  refine hr_istore_n hC dX15_weigh_8 (by decide) ?_
  refine hr_iload_n hC dX15_weigh_9 rfl ?_
  refine hr_bipush (v := 38) hC dX15_weigh_10 rfl ?_
  obtain ⟨v7, hv7, h⟩ := hl_ok h
  have J61 : ∀ w62 : Int32, (if r1 = 38 then 1 else (if r1 = 40 then 1 else 0)) = w62 → hc_At hc_V0 E 8 X 26 [(0, .ref (E.2.1 16)), (1, .int x1), (2, .int x2), (3, .int r1)] [.int w62] σ am [] := by
    intro w62 hw62
    obtain rfl := hv7.trans hw62
    refine hr_istore hC dX15_weigh_26 (by decide) ?_
    refine hr_iload hC dX15_weigh_28 rfl ?_
    obtain ⟨r10, e11, h⟩ := hx_bind h
    have J12 : hc_At hc_V0 E 8 X 61 [(0, .ref (E.2.1 16)), (1, .int x1), (2, .int x2), (3, .int r1)] [] r10 am [] := by
      refine hr_iload_n hC dX15_weigh_61 rfl ?_
      refine hr_bipush (v := 14) hC dX15_weigh_62 rfl ?_
      obtain ⟨v29, hv29, h⟩ := hl_ok h
      have J56 : ∀ w57 : Int32, (if r1 = 14 then 1 else (if r1 = 15 then 1 else (if r1 = 16 then 1 else 0))) = w57 → hc_At hc_V0 E 8 X 84 [(0, .ref (E.2.1 16)), (1, .int x1), (2, .int x2)] [.int w57] r10 am [] := by
        intro w57 hw57
        obtain rfl := hv29.trans hw57
        refine hr_istore hC dX15_weigh_84 (by decide) ?_
        refine hr_iload hC dX15_weigh_86 rfl ?_
        obtain ⟨v32, hv32, h⟩ := hl_ok h
        have J52 : ∀ w53 : Int32, (if v29 = 0 then x2 else (if 4096 ≤ x2 then x2 else (8 * x2))) = w53 → hc_At hc_V0 E 8 X 106 [(0, .ref (E.2.1 16)), (1, .int x1)] [.int w53] r10 am [] := by
          intro w53 hw53
          obtain rfl := hv32.trans hw53
          refine hr_istore hC dX15_weigh_106 (by decide) ?_
          refine hr_aload_n hC dX15_weigh_108 rfl ?_
          refine hr_gO 6 hC F16_0 rfl dX15_weigh_109 q767 ?_
          refine hr_iload_n hC dX15_weigh_112 rfl ?_
          obtain ⟨r33, e34, h⟩ := hx_bind h
          refine hs_callV0 hC 6 [_] _ dX15_weigh_113 q1955 q1576 q1577 q320 q1578 np_X6 rfl OB_6 pd_X6_first (Nat.le_of_ble_eq_true rfl) hd1 (okX6_first l E A (d - 1)  (by omega)  e34 am) rfl ?_
          refine hr_istore hC dX15_weigh_116 (by decide) ?_
          obtain ⟨r47, e48, h⟩ := hx_bind h
          refine hr_sub _ rfl (ll_X15_weigh_118 n k0 rec hD hem IH hC n _ _ _ _ am e48 ?_)
          obtain rfl := Option.some.inj h
          exact hr_vret hC dX15_weigh_146
        refine hr_if_eq (x := _) hC 105 dX15_weigh_88 (by decide) (fun c54 => ?_) (fun c54 => ?_)
        · refine hr_iload_n hC dX15_weigh_105 rfl ?_
          exact hr_sub _ rfl (J52 _ (by first | (rw [if_pos c54]; done) | (simp only [if_pos c54]; done) | rfl))
        · refine hr_iload_n hC dX15_weigh_91 rfl ?_
          refine hr_sipush (v := 4096) hC dX15_weigh_92 rfl ?_
          refine hr_icmp_ge (x := _) hC 105 dX15_weigh_95 (by decide) (fun c55 => ?_) (fun c55 => ?_)
          · refine hr_iload_n hC dX15_weigh_105 rfl ?_
            exact hr_sub _ rfl (J52 _ (by first | (rw [if_neg c54, if_pos c55]; done) | (simp only [if_neg c54, if_pos c55]; done) | rfl))
          · refine hr_bipush (v := 8) hC dX15_weigh_98 rfl ?_
            refine hr_iload_n hC dX15_weigh_100 rfl ?_
            refine hr_imul hC dX15_weigh_101 ?_
            refine hr_goto hC 106 dX15_weigh_102 (by decide) ?_
            exact hr_sub _ rfl (J52 _ (by first | (rw [if_neg c54, if_neg c55]; done) | (simp only [if_neg c54, if_neg c55]; done) | rfl))
      refine hr_icmp_eq (x := _) hC 79 dX15_weigh_64 (by decide) (fun c58 => ?_) (fun c58 => ?_)
      · refine hr_iconst (v := 1) hC dX15_weigh_79 rfl ?_
        refine hr_goto hC 84 dX15_weigh_80 (by decide) ?_
        exact hr_sub _ rfl (J56 _ (by first | (rw [if_pos c58]; done) | (simp only [if_pos c58]; done) | rfl))
      · refine hr_iload_n hC dX15_weigh_67 rfl ?_
        refine hr_bipush (v := 15) hC dX15_weigh_68 rfl ?_
        refine hr_icmp_eq (x := _) hC 79 dX15_weigh_70 (by decide) (fun c59 => ?_) (fun c59 => ?_)
        · refine hr_iconst (v := 1) hC dX15_weigh_79 rfl ?_
          refine hr_goto hC 84 dX15_weigh_80 (by decide) ?_
          exact hr_sub _ rfl (J56 _ (by first | (rw [if_neg c58, if_pos c59]; done) | (simp only [if_neg c58, if_pos c59]; done) | rfl))
        · refine hr_iload_n hC dX15_weigh_73 rfl ?_
          refine hr_bipush (v := 16) hC dX15_weigh_74 rfl ?_
          refine hr_icmp_ne (x := _) hC 83 dX15_weigh_76 (by decide) (fun c60 => ?_) (fun c60 => ?_)
          · refine hr_iconst (v := 0) hC dX15_weigh_83 rfl ?_
            exact hr_sub _ rfl (J56 _ (by first | (rw [if_neg c58, if_neg c59, if_neg c60]; done) | (simp only [if_neg c58, if_neg c59, if_neg c60]; done) | rfl))
          · refine hr_iconst (v := 1) hC dX15_weigh_79 rfl ?_
            refine hr_goto hC 84 dX15_weigh_80 (by decide) ?_
            exact hr_sub _ rfl (J56 _ (by first | (rw [if_neg c58, if_neg c59, if_pos c60]; done) | (simp only [if_neg c58, if_neg c59, if_pos c60]; done) | rfl))
    clear h
    have h := e11
    refine hr_if_eq (x := _) hC 61 dX15_weigh_30 (by decide) (fun c9 => ?_) (fun c9 => ?_)
    · rw [if_pos c9] at h
      obtain rfl := Option.some.inj h
      exact hr_sub _ rfl (J12)
    · rw [if_neg c9] at h
      refine hr_aload_n hC dX15_weigh_33 rfl ?_
      refine hr_gO 6 hC F16_0 rfl dX15_weigh_34 q767 ?_
      refine hr_iload_n hC dX15_weigh_37 rfl ?_
      obtain ⟨r14, e15, h⟩ := hx_bind h
      refine hs_callV0 hC 6 [_] _ dX15_weigh_38 q1954 q1687 q1688 q320 q1689 np_X6 rfl OB_6 pd_X6_extra (Nat.le_of_ble_eq_true rfl) hd1 (okX6_extra l E A (d - 1)  (by omega)  e15 am) rfl ?_
      refine hr_if_lt (x := _) hC 61 dX15_weigh_41 (by decide) (fun c19 => ?_) (fun c19 => ?_)
      · rw [if_pos c19] at h
        obtain rfl := Option.some.inj h
        exact hr_sub _ rfl (J12)
      · rw [if_neg c19] at h
        refine hr_aload_n hC dX15_weigh_44 rfl ?_
        refine hr_gA hC F16_2 rfl dX15_weigh_45 q769 ?_
        refine hr_aload_n hC dX15_weigh_48 rfl ?_
        refine hr_gO 6 hC F16_0 rfl dX15_weigh_49 q767 ?_
        refine hr_iload_n hC dX15_weigh_52 rfl ?_
        obtain ⟨r20, e21, h⟩ := hx_bind h
        refine hs_callV0 hC 6 [_] _ dX15_weigh_53 q1954 q1687 q1688 q320 q1689 np_X6 rfl OB_6 pd_X6_extra (Nat.le_of_ble_eq_true rfl) hd1 (okX6_extra l E A (d - 1)  (by omega)  e21 am) rfl ?_
        refine hr_dup2 hC dX15_weigh_56 rfl rfl ?_
        obtain ⟨c24, h⟩ := hk_ok h
        refine hs_iald hC A16_2 c24 dX15_weigh_57 ?_
        refine hr_iload_n hC dX15_weigh_58 rfl ?_
        refine hr_iadd hC dX15_weigh_59 ?_
        obtain ⟨c25, h⟩ := hk_ok h
        obtain ⟨σ26, hσ26, h⟩ := hl_ok h
        refine hs_iast hC A16_2 c25 dX15_weigh_60 ?_
        rw [← hσ26]
        obtain rfl := Option.some.inj h
        exact hr_sub _ rfl (J12)
  refine hr_icmp_eq (x := _) hC 21 dX15_weigh_12 (by decide) (fun c63 => ?_) (fun c63 => ?_)
  · refine hr_iconst (v := 1) hC dX15_weigh_21 rfl ?_
    refine hr_goto hC 26 dX15_weigh_22 (by decide) ?_
    exact hr_sub _ rfl (J61 _ (by first | (rw [if_pos c63]; done) | (simp only [if_pos c63]; done) | rfl))
  · refine hr_iload_n hC dX15_weigh_15 rfl ?_
    refine hr_bipush (v := 40) hC dX15_weigh_16 rfl ?_
    refine hr_icmp_ne (x := _) hC 25 dX15_weigh_18 (by decide) (fun c64 => ?_) (fun c64 => ?_)
    · refine hr_iconst (v := 0) hC dX15_weigh_25 rfl ?_
      exact hr_sub _ rfl (J61 _ (by first | (rw [if_neg c63, if_neg c64]; done) | (simp only [if_neg c63, if_neg c64]; done) | rfl))
    · refine hr_iconst (v := 1) hC dX15_weigh_21 rfl ?_
      refine hr_goto hC 26 dX15_weigh_22 (by decide) ?_
      exact hr_sub _ rfl (J61 _ (by first | (rw [if_neg c63, if_pos c64]; done) | (simp only [if_neg c63, if_pos c64]; done) | rfl))
def rc_X15_weigh (n : Nat) (k0 : Nat) : Nat → Nat → List Int32 → hc_St → Option (Int32 × hc_St)
  | 0, _, _, _ => none
  | k + 1, w, a, σ => match w with
    | 0 => bd_X15_weigh n k0 (rc_X15_weigh n k0 k) (a.getD 0 0) (a.getD 1 0) σ
    | _ => none
theorem okr_X15_weigh (l : Launch) (E : hc_E) (A : Nat → Prop) (n : Nat) (k0 : Nat) : ∀ (k d : Nat), k + 2 ≤ d → ∀ (w : Nat) (a : List Int32) (σ : hc_St) (r : (Int32 × hc_St)), rc_X15_weigh n k0 k w a σ = some r → ∀ am, okg_X15_weigh l E A d am w a σ r
  | 0, d, _, w, a, σ, r, h, am => by cases h
  | k + 1, d, hd, w, a, σ, r, h, am => by
    have IH := okr_X15_weigh l E A n k0 k (d - 1) (by omega)
    match w, h with
    | 0, h => exact okbX15_weigh l E A d (kk := k) n k0 (rc_X15_weigh n k0 k) (by omega) IH h am
    | w + 1, h => trivial
def fm_X15_weigh (n : Nat) (k0 : Nat) (x1 : Int32) (x2 : Int32) (σ : hc_St) : Option (Int32 × hc_St) := rc_X15_weigh n k0 k0 0 [x1, x2] σ
theorem okX15_weigh (l : Launch) (E : hc_E) (A : Nat → Prop) (d : Nat) (n : Nat) (k0 : Nat) (hD : k0 + 2 ≤ d)  {x1 : Int32} {x2 : Int32} {σ : hc_St} {r : (Int32 × hc_St)} (h : fm_X15_weigh n k0 x1 x2 σ = some r) (am : Nat → Nat → Nat) : hc_M l hc_V0 yX15_weigh (ws_ yX15_weigh cX15_weigh 8 none) d E A [.ref (E.2.1 16), .int x1, .int x2] am [] σ (.inl (none)) r.2 := okr_X15_weigh l E A n k0 k0 d hD 0 _ _ _ h am
def lp_X15_heaviest_4 (n : Nat) : Nat → Int32 → Int32 → Int32 → hc_St → Option (Int32)
  | 0, _, _, _, _ => none
  | m + 1, y1, y2, y3, σ => Option.bind (fm_X11_count  σ) fun r1 => if r1 ≤ y3 then (some (y2)) else (Option.bind (fm_X11_size y3 σ) fun r7 => hl (α := Int32) ((if r7 = (-1) then 2 else 1)) fun v13 => Option.bind (fm_X11_owner y3 σ) fun r14 => Option.bind (α := Int32) (if r14 = y1 then (Option.bind (fm_X11_size y3 σ) fun r24 => if 0 < r24 then (some (0)) else (hk (inb y3 (gL σ 16 3)) <| if (gC σ 16 3 y3) = (-1) then (hk (inb y3 (gL σ 16 2)) <| if (gC σ 16 2 y3) ≤ 0 then (some (0)) else (if 10 < (((gI σ 16 6)) + v13) then (some (0)) else (some (1)))) else (some (0)))) else (some (0))) fun r20 => Option.bind (α := Int32) (if r20 = 0 then (some (y2)) else (if y2 = (-1) then (some (y3)) else (hk (inb y3 (gL σ 16 2)) <| hk (inb y2 (gL σ 16 2)) <| if (gC σ 16 2 y3) ≤ (gC σ 16 2 y2) then (some (y2)) else (some (y3))))) fun r40 => lp_X15_heaviest_4 n m y1 r40 ((y3 + 1)) σ)
/-- HomeCompiler$Homes.heaviest(I)I -/
def fm_X15_heaviest (n : Nat) (x1 : Int32) (σ : hc_St) : Option Int32 := Option.bind (lp_X15_heaviest_4 n n x1 ((-1)) 0 σ) fun r53 => some r53
set_option maxRecDepth 20000 in
set_option maxHeartbeats 4000000 in
theorem ll_X15_heaviest_4 {l : Launch} {E : hc_E} {A : Nat → Prop} {am : Nat → Nat → Nat} {d : Nat} {X : hc_X} (n : Nat) (hD : 2 ≤ d) (hem : X.2.2.2.2.2.2.2.2.2.1.exceptionTable.isEmpty = true) {oc : hc_Oc} {σe : hc_St} (hC : hc_C hc_V0 E cX15_heaviest 6 RX15 (some .int) d oc σe (l, A, am, []) X) : ∀ (m : Nat) (σ : hc_St) (y1 : Int32) (y2 : Int32) (y3 : Int32) (rl : Int32) (am1 : Nat → Nat → Nat), lp_X15_heaviest_4 n m y1 y2 y3 σ = some rl → (hc_At hc_V0 E 6 X 132 [(2, .int rl)] [] σ am1 []) → hc_At hc_V0 E 6 X 4 [(0, .ref (E.2.1 16)), (1, .int y1), (2, .int y2), (3, .int y3)] [] σ am1 [] := by
  have hd1 : 1 ≤ d := by omega
  intro m
  induction m with
  | zero =>
    intro σ y1 y2 y3 rl am1 h
    cases h
  | succ m ih =>
    intro σ y1 y2 y3 rl am1 h JX
    rw [lp_X15_heaviest_4] at h
    refine hr_iload_n hC dX15_heaviest_4 rfl ?_
    refine hr_aload_n hC dX15_heaviest_5 rfl ?_
    refine hr_gO 11 hC F16_1 rfl dX15_heaviest_6 q768 ?_
    obtain ⟨r1, e2, h⟩ := hx_bind h
    refine hs_callV0 hC 11 [] _ dX15_heaviest_9 q1947 q1864 q1865 q325 q1866 np_X11 rfl OB_11 pd_X11_count (Nat.le_of_ble_eq_true rfl) hd1 (okX11_count l E A (d - 1)  (by omega)  e2 am1) rfl ?_
    refine hr_icmp_ge (x := _) hC 132 dX15_heaviest_12 (by decide) (fun c6 => ?_) (fun c6 => ?_)
    · rw [if_pos c6] at h
      obtain rfl := Option.some.inj h
      exact hr_sub _ rfl (JX)
    · rw [if_neg c6] at h
      refine hr_aload_n hC dX15_heaviest_15 rfl ?_
      refine hr_gO 11 hC F16_1 rfl dX15_heaviest_16 q768 ?_
      refine hr_iload_n hC dX15_heaviest_19 rfl ?_
      obtain ⟨r7, e8, h⟩ := hx_bind h
      refine hs_callV0 hC 11 [_] _ dX15_heaviest_20 q1961 q1655 q1656 q325 q1657 np_X11 rfl OB_11 pd_X11_size (Nat.le_of_ble_eq_true rfl) hd1 (okX11_size l E A (d - 1)  (by omega)  e8 am1) rfl ?_
      refine hr_iconst (v := (-1)) hC dX15_heaviest_23 rfl ?_
      obtain ⟨v13, hv13, h⟩ := hl_ok h
      have J50 : ∀ w51 : Int32, (if r7 = (-1) then 2 else 1) = w51 → hc_At hc_V0 E 6 X 32 [(0, .ref (E.2.1 16)), (1, .int y1), (2, .int y2), (3, .int y3)] [.int w51] σ am1 [] := by
        intro w51 hw51
        obtain rfl := hv13.trans hw51
        refine hr_istore hC dX15_heaviest_32 (by decide) ?_
        refine hr_aload_n hC dX15_heaviest_34 rfl ?_
        refine hr_gO 11 hC F16_1 rfl dX15_heaviest_35 q768 ?_
        refine hr_iload_n hC dX15_heaviest_38 rfl ?_
        obtain ⟨r14, e15, h⟩ := hx_bind h
        refine hs_callV0 hC 11 [_] _ dX15_heaviest_39 q1948 q1868 q1869 q325 q1870 np_X11 rfl OB_11 pd_X11_owner (Nat.le_of_ble_eq_true rfl) hd1 (okX11_owner l E A (d - 1)  (by omega)  e15 am1) rfl ?_
        refine hr_iload_n hC dX15_heaviest_42 rfl ?_
        obtain ⟨r20, e21, h⟩ := hx_bind h
        have J22 : hc_At hc_V0 E 6 X 93 [(0, .ref (E.2.1 16)), (1, .int y1), (2, .int y2), (3, .int y3)] [.int r20] σ am1 [] := by
          refine hr_istore hC dX15_heaviest_93 (by decide) ?_
          refine hr_iload hC dX15_heaviest_95 rfl ?_
          obtain ⟨r40, e41, h⟩ := hx_bind h
          have J42 : hc_At hc_V0 E 6 X 125 [(0, .ref (E.2.1 16)), (1, .int y1), (3, .int y3)] [.int r40] σ am1 [] := by
            refine hr_istore_n hC dX15_heaviest_125 (by decide) ?_
            refine hr_iinc (v := y3 + 1) hC dX15_heaviest_126 rfl rfl (by decide) ?_
            refine hr_goto hC 4 dX15_heaviest_129 (by decide) ?_
            exact hr_sub _ rfl (ih _ _ _ _ _ am1 h JX)
          clear h
          have h := e41
          refine hr_if_eq (x := _) hC 124 dX15_heaviest_97 (by decide) (fun c39 => ?_) (fun c39 => ?_)
          · rw [if_pos c39] at h
            refine hr_iload_n hC dX15_heaviest_124 rfl ?_
            obtain rfl := Option.some.inj h
            exact hr_sub _ rfl (J42)
          · rw [if_neg c39] at h
            refine hr_iload_n hC dX15_heaviest_100 rfl ?_
            refine hr_iconst (v := (-1)) hC dX15_heaviest_101 rfl ?_
            refine hr_icmp_eq (x := _) hC 120 dX15_heaviest_102 (by decide) (fun c45 => ?_) (fun c45 => ?_)
            · rw [if_pos c45] at h
              refine hr_iload_n hC dX15_heaviest_120 rfl ?_
              refine hr_goto hC 125 dX15_heaviest_121 (by decide) ?_
              obtain rfl := Option.some.inj h
              exact hr_sub _ rfl (J42)
            · rw [if_neg c45] at h
              refine hr_aload_n hC dX15_heaviest_105 rfl ?_
              refine hr_gA hC F16_2 rfl dX15_heaviest_106 q769 ?_
              refine hr_iload_n hC dX15_heaviest_109 rfl ?_
              obtain ⟨c46, h⟩ := hk_ok h
              refine hs_iald hC A16_2 c46 dX15_heaviest_110 ?_
              refine hr_aload_n hC dX15_heaviest_111 rfl ?_
              refine hr_gA hC F16_2 rfl dX15_heaviest_112 q769 ?_
              refine hr_iload_n hC dX15_heaviest_115 rfl ?_
              obtain ⟨c47, h⟩ := hk_ok h
              refine hs_iald hC A16_2 c47 dX15_heaviest_116 ?_
              refine hr_icmp_le (x := _) hC 124 dX15_heaviest_117 (by decide) (fun c49 => ?_) (fun c49 => ?_)
              · rw [if_pos c49] at h
                refine hr_iload_n hC dX15_heaviest_124 rfl ?_
                obtain rfl := Option.some.inj h
                exact hr_sub _ rfl (J42)
              · rw [if_neg c49] at h
                refine hr_iload_n hC dX15_heaviest_120 rfl ?_
                refine hr_goto hC 125 dX15_heaviest_121 (by decide) ?_
                obtain rfl := Option.some.inj h
                exact hr_sub _ rfl (J42)
        clear h
        have h := e21
        refine hr_icmp_ne (x := _) hC 92 dX15_heaviest_43 (by decide) (fun c19 => ?_) (fun c19 => ?_)
        · rw [if_neg c19] at h
          refine hr_iconst (v := 0) hC dX15_heaviest_92 rfl ?_
          obtain rfl := Option.some.inj h
          exact hr_sub _ rfl (J22)
        · rw [if_pos c19] at h
          refine hr_aload_n hC dX15_heaviest_46 rfl ?_
          refine hr_gO 11 hC F16_1 rfl dX15_heaviest_47 q768 ?_
          refine hr_iload_n hC dX15_heaviest_50 rfl ?_
          obtain ⟨r24, e25, h⟩ := hx_bind h
          refine hs_callV0 hC 11 [_] _ dX15_heaviest_51 q1961 q1655 q1656 q325 q1657 np_X11 rfl OB_11 pd_X11_size (Nat.le_of_ble_eq_true rfl) hd1 (okX11_size l E A (d - 1)  (by omega)  e25 am1) rfl ?_
          refine hr_if_gt (x := _) hC 92 dX15_heaviest_54 (by decide) (fun c29 => ?_) (fun c29 => ?_)
          · rw [if_pos c29] at h
            refine hr_iconst (v := 0) hC dX15_heaviest_92 rfl ?_
            obtain rfl := Option.some.inj h
            exact hr_sub _ rfl (J22)
          · rw [if_neg c29] at h
            refine hr_aload_n hC dX15_heaviest_57 rfl ?_
            refine hr_gA hC F16_3 rfl dX15_heaviest_58 q770 ?_
            refine hr_iload_n hC dX15_heaviest_61 rfl ?_
            obtain ⟨c30, h⟩ := hk_ok h
            refine hs_iald hC A16_3 c30 dX15_heaviest_62 ?_
            refine hr_iconst (v := (-1)) hC dX15_heaviest_63 rfl ?_
            refine hr_icmp_ne (x := _) hC 92 dX15_heaviest_64 (by decide) (fun c32 => ?_) (fun c32 => ?_)
            · rw [if_neg c32] at h
              refine hr_iconst (v := 0) hC dX15_heaviest_92 rfl ?_
              obtain rfl := Option.some.inj h
              exact hr_sub _ rfl (J22)
            · rw [if_pos c32] at h
              refine hr_aload_n hC dX15_heaviest_67 rfl ?_
              refine hr_gA hC F16_2 rfl dX15_heaviest_68 q769 ?_
              refine hr_iload_n hC dX15_heaviest_71 rfl ?_
              obtain ⟨c33, h⟩ := hk_ok h
              refine hs_iald hC A16_2 c33 dX15_heaviest_72 ?_
              refine hr_if_le (x := _) hC 92 dX15_heaviest_73 (by decide) (fun c35 => ?_) (fun c35 => ?_)
              · rw [if_pos c35] at h
                refine hr_iconst (v := 0) hC dX15_heaviest_92 rfl ?_
                obtain rfl := Option.some.inj h
                exact hr_sub _ rfl (J22)
              · rw [if_neg c35] at h
                refine hr_aload_n hC dX15_heaviest_76 rfl ?_
                refine hr_gI hC F16_6 dX15_heaviest_77 q773 ?_
                refine hr_iload hC dX15_heaviest_80 rfl ?_
                refine hr_iadd hC dX15_heaviest_82 ?_
                refine hr_bipush (v := 10) hC dX15_heaviest_83 rfl ?_
                refine hr_icmp_gt (x := _) hC 92 dX15_heaviest_85 (by decide) (fun c37 => ?_) (fun c37 => ?_)
                · rw [if_pos c37] at h
                  refine hr_iconst (v := 0) hC dX15_heaviest_92 rfl ?_
                  obtain rfl := Option.some.inj h
                  exact hr_sub _ rfl (J22)
                · rw [if_neg c37] at h
                  refine hr_iconst (v := 1) hC dX15_heaviest_88 rfl ?_
                  refine hr_goto hC 93 dX15_heaviest_89 (by decide) ?_
                  obtain rfl := Option.some.inj h
                  exact hr_sub _ rfl (J22)
      refine hr_icmp_ne (x := _) hC 31 dX15_heaviest_24 (by decide) (fun c52 => ?_) (fun c52 => ?_)
      · refine hr_iconst (v := 1) hC dX15_heaviest_31 rfl ?_
        exact hr_sub _ rfl (J50 _ (by first | (rw [if_neg c52]; done) | (simp only [if_neg c52]; done) | rfl))
      · refine hr_iconst (v := 2) hC dX15_heaviest_27 rfl ?_
        refine hr_goto hC 32 dX15_heaviest_28 (by decide) ?_
        exact hr_sub _ rfl (J50 _ (by first | (rw [if_pos c52]; done) | (simp only [if_pos c52]; done) | rfl))
set_option maxRecDepth 20000 in
set_option maxHeartbeats 4000000 in
theorem okX15_heaviest (l : Launch) (E : hc_E) (A : Nat → Prop) (d : Nat) (n : Nat) (hD : 2 ≤ d) {x1 : Int32} {σ : hc_St} {r : Int32} (h : fm_X15_heaviest n x1 σ = some r) (am : Nat → Nat → Nat) : hc_M l hc_V0 yX15_heaviest (ws_ yX15_heaviest cX15_heaviest 6 (some .int)) d E A [.ref (E.2.1 16), .int x1] am [] σ (.inl (some (.int r))) σ := by
  have hd1 : 1 ≤ d := by omega
  refine hc_enter2 (own := RX15) [(0, .ref (E.2.1 16)), (1, .int x1)] pl_X15 rfl hc_V0_st hc_G0_nd rfl (Nat.le_of_ble_eq_true rfl) (fun X hC hem => ?_)
  unfold fm_X15_heaviest at h
  refine hr_iconst (v := (-1)) hC dX15_heaviest_0 rfl ?_
  refine hr_istore_n hC dX15_heaviest_1 (by decide) ?_
  refine hr_iconst (v := 0) hC dX15_heaviest_2 rfl ?_
  refine hr_istore_n hC dX15_heaviest_3 (by decide) ?_
  obtain ⟨r53, e54, h⟩ := hx_bind h
  refine hr_sub _ rfl (ll_X15_heaviest_4 n hD hem hC n _ _ _ _ _ am e54 ?_)
  refine hr_iload_n hC dX15_heaviest_132 rfl ?_
  obtain rfl := Option.some.inj h
  exact hr_iret hC dX15_heaviest_133
/-- HomeCompiler$Homes.register(I)I -/
def fm_X15_register  (x0 : Int32) (σ : hc_St) : Option Int32 := hl (α := Int32) ((if x0 = 0 then 9 else (17 + x0))) fun v3 => some v3
set_option maxRecDepth 20000 in
set_option maxHeartbeats 4000000 in
theorem okX15_register (l : Launch) (E : hc_E) (A : Nat → Prop) (d : Nat)  (hD : 1 ≤ d) {x0 : Int32} {σ : hc_St} {r : Int32} (h : fm_X15_register  x0 σ = some r) (am : Nat → Nat → Nat) : hc_M l hc_V0 yX15_register (ws_ yX15_register cX15_register 1 (some .int)) d E A [.int x0] am [] σ (.inl (some (.int r))) σ := by
  have hd1 : 1 ≤ d := by omega
  refine hc_enter2 (own := RX15) [(0, .int x0)] pl_X15 rfl hc_V0_st hc_G0_nd rfl (Nat.le_of_ble_eq_true rfl) (fun X hC hem => ?_)
  unfold fm_X15_register at h
  refine hr_iload_n hC dX15_register_0 rfl ?_
  obtain ⟨v3, hv3, h⟩ := hl_ok h
  have J4 : ∀ w5 : Int32, (if x0 = 0 then 9 else (17 + x0)) = w5 → hc_At hc_V0 E 1 X 13 [] [.int w5] σ am [] := by
    intro w5 hw5
    obtain rfl := hv3.trans hw5
    obtain rfl := Option.some.inj h
    exact hr_iret hC dX15_register_13
  refine hr_if_ne (x := _) hC 9 dX15_register_1 (by decide) (fun c6 => ?_) (fun c6 => ?_)
  · refine hr_bipush (v := 17) hC dX15_register_9 rfl ?_
    refine hr_iload_n hC dX15_register_11 rfl ?_
    refine hr_iadd hC dX15_register_12 ?_
    exact hr_sub _ rfl (J4 _ (by first | (rw [if_neg c6]; done) | (simp only [if_neg c6]; done) | rfl))
  · refine hr_bipush (v := 9) hC dX15_register_4 rfl ?_
    refine hr_goto hC 13 dX15_register_6 (by decide) ?_
    exact hr_sub _ rfl (J4 _ (by first | (rw [if_pos c6]; done) | (simp only [if_pos c6]; done) | rfl))
/-- HomeCompiler$Nodes.number(I)I -/
def fm_X6_number  (x1 : Int32) (σ : hc_St) : Option Int32 := hk (inb x1 (gL σ 6 5)) <| some ((gC σ 6 5 x1))
set_option maxRecDepth 20000 in
set_option maxHeartbeats 4000000 in
theorem okX6_number (l : Launch) (E : hc_E) (A : Nat → Prop) (d : Nat)  (hD : 1 ≤ d) {x1 : Int32} {σ : hc_St} {r : Int32} (h : fm_X6_number  x1 σ = some r) (am : Nat → Nat → Nat) : hc_M l hc_V0 yX6_number (ws_ yX6_number cX6_number 2 (some .int)) d E A [.ref (E.2.1 6), .int x1] am [] σ (.inl (some (.int r))) σ := by
  have hd1 : 1 ≤ d := by omega
  refine hc_enter2 (own := RX6) [(0, .ref (E.2.1 6)), (1, .int x1)] pl_X6 rfl hc_V0_st hc_G0_nd rfl (Nat.le_of_ble_eq_true rfl) (fun X hC hem => ?_)
  unfold fm_X6_number at h
  refine hr_aload_n hC dX6_number_0 rfl ?_
  refine hr_gA hC F6_5 rfl dX6_number_1 q530 ?_
  refine hr_iload_n hC dX6_number_4 rfl ?_
  obtain ⟨c1, h⟩ := hk_ok h
  refine hs_iald hC A6_5 c1 dX6_number_5 ?_
  obtain rfl := Option.some.inj h
  exact hr_iret hC dX6_number_6
