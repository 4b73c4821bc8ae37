set_option maxRecDepth 20000
def okg_X8_isTold (l : Launch) (E : hc_E) (A : Nat → Prop) (d : Nat) (am : Nat → Nat → Nat) (w : Nat) (a : List Int32) (σ : hc_St) (r : (Int32 × hc_St)) : Prop := match w with
  | 0 => hc_M l hc_V0 yX8_isTold (ws_ yX8_isTold cX8_isTold 3 (some .boolean)) d E A [.ref (E.2.1 8), .int (a.getD 0 0)] am [] σ (.inl (some (.int r.1))) r.2
  | 1 => hc_M l hc_V0 yX8_number (ws_ yX8_number cX8_number 3 none) d E A [.ref (E.2.1 8), .int (a.getD 0 0)] am [] σ (.inl (none)) r.2
  | 2 => hc_M l hc_V0 yX8_typeOf (ws_ yX8_typeOf cX8_typeOf 3 (some .int)) d E A [.ref (E.2.1 8), .int (a.getD 0 0)] am [] σ (.inl (some (.int r.1))) r.2
  | 3 => hc_M l hc_V0 yX8_typeOfCall (ws_ yX8_typeOfCall cX8_typeOfCall 5 (some .int)) d E A [.ref (E.2.1 8), .int (a.getD 0 0)] am [] σ (.inl (some (.int r.1))) r.2
  | 4 => hc_M l hc_V0 yX8_typeOfGiven (ws_ yX8_typeOfGiven cX8_typeOfGiven 5 (some .int)) d E A [.ref (E.2.1 8), .int (a.getD 0 0), .ref (E.2.2.2.1 ((a.getD 1 0) : Int32).toNatClampNeg)] am [] σ (.inl (some (.int r.1))) r.2
  | 5 => hc_M l hc_V0 yX8_argument (ws_ yX8_argument cX8_argument 5 none) d E A [.ref (E.2.1 8), .int (a.getD 0 0), .int (a.getD 1 0)] am [] σ (.inl (none)) r.2
  | 6 => hc_M l hc_V0 yX8_typeOfOwn (ws_ yX8_typeOfOwn cX8_typeOfOwn 7 (some .int)) d E A [.ref (E.2.1 8), .int (a.getD 0 0), .int (a.getD 1 0)] am [] σ (.inl (some (.int r.1))) r.2
  | 7 => hc_M l hc_V0 yX8_typeOfIndex (ws_ yX8_typeOfIndex cX8_typeOfIndex 3 (some .int)) d E A [.ref (E.2.1 8), .int (a.getD 0 0)] am [] σ (.inl (some (.int r.1))) r.2
  | 8 => hc_M l hc_V0 yX8_target (ws_ yX8_target cX8_target 5 none) d E A [.ref (E.2.1 8), .int (a.getD 0 0)] am [] σ (.inl (none)) r.2
  | _ => True
/-- HomeCompiler$Checker.isTold(I)Z -/
def bd_X8_isTold (n : Nat) (k0 : Nat) (rec : Nat → List Int32 → hc_St → Option (Int32 × hc_St)) (x1 : Int32) (σ : hc_St) : Option (Int32 × hc_St) := Option.bind (rec 1 [x1] σ) fun r1 => Option.bind (fm_X8_sortOf n k0 x1 r1.2) fun r5 => if r5.1 = 0 then (Option.bind (fm_X6_place x1 r5.2) fun r40 => Option.bind (fm_X9_say 7 r40 r5.2) fun r44 => some (0, r44)) else (if r5.1 = 2 then (some (0, r5.2)) else (hl (pI r5.2 8 14 0) fun σ13 => Option.bind (fm_X8_valueOf n k0 x1 σ13) fun r14 => hl (pI r14.2 8 15 r14.1) fun σ18 => Option.bind (α := hc_St) (if (gI σ18 8 14) = 0 then (some (σ18)) else (Option.bind (fm_X6_place x1 σ18) fun r25 => Option.bind (fm_X9_say 7 r25 σ18) fun r29 => some (r29))) fun r21 => hl (α := Int32) ((if (gI r21 8 14) = 0 then 1 else 0)) fun v35 => hk (hb01 v35) <| some (v35, r21)))
set_option maxRecDepth 20000 in
set_option maxHeartbeats 4000000 in
theorem okbX8_isTold (l : Launch) (E : hc_E) (A : Nat → Prop) (d : Nat) {kk : Nat} (n : Nat) (k0 : Nat) (rec : Nat → List Int32 → hc_St → Option (Int32 × hc_St)) (hD : kk + 1 * k0 + 9 ≤ d) (IH : ∀ (w : Nat) (a : List Int32) (σ : hc_St) (r : (Int32 × hc_St)), rec w a σ = some r → ∀ am, okg_X8_isTold l E A (d - 1) am w a σ r) {x1 : Int32} {σ : hc_St} {r : (Int32 × hc_St)} (h : bd_X8_isTold n k0 rec x1 σ = some r) (am : Nat → Nat → Nat) : hc_M l hc_V0 yX8_isTold (ws_ yX8_isTold cX8_isTold 3 (some .boolean)) d E A [.ref (E.2.1 8), .int x1] am [] σ (.inl (some (.int r.1))) r.2 := by
  have hd1 : 1 ≤ d := by omega
  have hd8 : 9 ≤ d := by omega
  refine hc_enter2 (own := RX8) [(0, .ref (E.2.1 8)), (1, .int x1)] pl_X8 rfl hc_V0_st hc_G0_nd rfl (Nat.le_of_ble_eq_true rfl) (fun X hC hem => ?_)
  unfold bd_X8_isTold at h
  refine hr_aload_n hC dX8_isTold_0 rfl ?_
  refine hr_iload_n hC dX8_isTold_1 rfl ?_
  obtain ⟨r1, e2, h⟩ := hx_bind h
  refine hs_callV0 hC 8 [_] _ dX8_isTold_2 q1618 q1620 qs60 q322 q1621 np_X8 rfl OB_8 pd_X8_number (Nat.le_of_ble_eq_true rfl) hd1 (IH _ _ _ _ e2 am) rfl ?_
  refine hr_aload_n hC dX8_isTold_5 rfl ?_
  refine hr_iload_n hC dX8_isTold_6 rfl ?_
  obtain ⟨r5, e6, h⟩ := hx_bind h
  refine hs_callV0 hC 8 [_] _ dX8_isTold_7 q1698 q1700 qs70 q322 q1701 np_X8 rfl OB_8 pd_X8_sortOf (Nat.le_of_ble_eq_true rfl) hd1 (okX8_sortOf l E A (d - 1) n k0 (by omega)  e6 am) rfl ?_
  refine hr_istore_n hC dX8_isTold_10 (by decide) ?_
  refine hr_iload_n hC dX8_isTold_11 rfl ?_
  refine hr_if_ne (x := _) hC 34 dX8_isTold_12 (by decide) (fun c10 => ?_) (fun c10 => ?_)
  · rw [if_neg c10] at h
    refine hr_iload_n hC dX8_isTold_34 rfl ?_
    refine hr_iconst (v := 2) hC dX8_isTold_35 rfl ?_
    refine hr_icmp_ne (x := _) hC 41 dX8_isTold_36 (by decide) (fun c12 => ?_) (fun c12 => ?_)
    · rw [if_neg c12] at h
      refine hr_aload_n hC dX8_isTold_41 rfl ?_
      refine hr_iconst (v := 0) hC dX8_isTold_42 rfl ?_
      obtain ⟨σ13, hσ13, h⟩ := hl_ok h
      refine hr_pZ hC F8_14 PX8_14 (by decide) dX8_isTold_43 q675 ?_
      rw [← hσ13]
      refine hr_aload_n hC dX8_isTold_46 rfl ?_
      refine hr_aload_n hC dX8_isTold_47 rfl ?_
      refine hr_iload_n hC dX8_isTold_48 rfl ?_
      obtain ⟨r14, e15, h⟩ := hx_bind h
      refine hs_callV0 hC 8 [_] _ dX8_isTold_49 q1703 q1705 qs71 q322 q1706 np_X8 rfl OB_8 pd_X8_valueOf (Nat.le_of_ble_eq_true rfl) hd1 (okX8_valueOf l E A (d - 1) n k0 (by omega)  e15 am) rfl ?_
      obtain ⟨σ18, hσ18, h⟩ := hl_ok h
      refine hr_pI hC F8_15 PX8_15 dX8_isTold_52 q676 ?_
      rw [← hσ18]
      refine hr_aload_n hC dX8_isTold_55 rfl ?_
      refine hr_gI hC F8_14 dX8_isTold_56 q675 ?_
      obtain ⟨r21, e22, h⟩ := hx_bind h
      have J23 : hc_At hc_V0 E 3 X 79 [(0, .ref (E.2.1 8))] [] r21 am [] := by
        refine hr_aload_n hC dX8_isTold_79 rfl ?_
        refine hr_gI hC F8_14 dX8_isTold_80 q675 ?_
        obtain ⟨v35, hv35, h⟩ := hl_ok h
        have J37 : ∀ w38 : Int32, (if (gI r21 8 14) = 0 then 1 else 0) = w38 → hc_At hc_V0 E 3 X 91 [] [.int w38] r21 am [] := by
          intro w38 hw38
          obtain rfl := hv35.trans hw38
          obtain ⟨c36, h⟩ := hk_ok h
          obtain rfl := Option.some.inj h
          exact hr_zret hC (hb01_n c36) dX8_isTold_91
        refine hr_if_ne (x := _) hC 90 dX8_isTold_83 (by decide) (fun c39 => ?_) (fun c39 => ?_)
        · refine hr_iconst (v := 0) hC dX8_isTold_90 rfl ?_
          exact hr_sub _ rfl (J37 _ (by first | (rw [if_neg c39]; done) | (simp only [if_neg c39]; done) | rfl))
        · refine hr_iconst (v := 1) hC dX8_isTold_86 rfl ?_
          refine hr_goto hC 91 dX8_isTold_87 (by decide) ?_
          exact hr_sub _ rfl (J37 _ (by first | (rw [if_pos c39]; done) | (simp only [if_pos c39]; done) | rfl))
      clear h
      have h := e22
      refine hr_if_eq (x := _) hC 79 dX8_isTold_59 (by decide) (fun c20 => ?_) (fun c20 => ?_)
      · rw [if_pos c20] at h
        obtain rfl := Option.some.inj h
        exact hr_sub _ rfl (J23)
      · rw [if_neg c20] at h
        refine hr_aload_n hC dX8_isTold_62 rfl ?_
        refine hr_gO 9 hC F8_3 rfl dX8_isTold_63 q664 ?_
        refine hr_bipush (v := 7) hC dX8_isTold_66 rfl ?_
        refine hr_aload_n hC dX8_isTold_68 rfl ?_
        refine hr_gO 6 hC F8_0 rfl dX8_isTold_69 q661 ?_
        refine hr_iload_n hC dX8_isTold_72 rfl ?_
        obtain ⟨r25, e26, h⟩ := hx_bind h
        refine hs_callV0 hC 6 [_] _ dX8_isTold_73 q1593 q1594 q1595 q320 q1596 np_X6 rfl OB_6 pd_X6_place (Nat.le_of_ble_eq_true rfl) hd1 (okX6_place l E A (d - 1)  (by omega)  e26 am) rfl ?_
        obtain ⟨r29, e30, h⟩ := hx_bind h
        refine hs_callV0 hC 9 [_, _] _ dX8_isTold_76 q1597 q1598 q1599 q323 q1600 np_X9 rfl OB_9 pd_X9_say (Nat.le_of_ble_eq_true rfl) hd1 (okX9_say l E A (d - 1)  (by omega)  e30 am) rfl ?_
        obtain rfl := Option.some.inj h
        exact hr_sub _ rfl (J23)
    · rw [if_pos c12] at h
      refine hr_iconst (v := 0) hC dX8_isTold_39 rfl ?_
      obtain rfl := Option.some.inj h
      exact hr_zret hC rfl dX8_isTold_40
  · rw [if_pos c10] at h
    refine hr_aload_n hC dX8_isTold_15 rfl ?_
    refine hr_gO 9 hC F8_3 rfl dX8_isTold_16 q664 ?_
    refine hr_bipush (v := 7) hC dX8_isTold_19 rfl ?_
    refine hr_aload_n hC dX8_isTold_21 rfl ?_
    refine hr_gO 6 hC F8_0 rfl dX8_isTold_22 q661 ?_
    refine hr_iload_n hC dX8_isTold_25 rfl ?_
    obtain ⟨r40, e41, h⟩ := hx_bind h
    refine hs_callV0 hC 6 [_] _ dX8_isTold_26 q1593 q1594 q1595 q320 q1596 np_X6 rfl OB_6 pd_X6_place (Nat.le_of_ble_eq_true rfl) hd1 (okX6_place l E A (d - 1)  (by omega)  e41 am) rfl ?_
    obtain ⟨r44, e45, h⟩ := hx_bind h
    refine hs_callV0 hC 9 [_, _] _ dX8_isTold_29 q1597 q1598 q1599 q323 q1600 np_X9 rfl OB_9 pd_X9_say (Nat.le_of_ble_eq_true rfl) hd1 (okX9_say l E A (d - 1)  (by omega)  e45 am) rfl ?_
    refine hr_iconst (v := 0) hC dX8_isTold_32 rfl ?_
    obtain rfl := Option.some.inj h
    exact hr_zret hC rfl dX8_isTold_33
/-- HomeCompiler$Checker.number(I)V -/
def bd_X8_number (n : Nat) (k0 : Nat) (rec : Nat → List Int32 → hc_St → Option (Int32 × hc_St)) (x1 : Int32) (σ : hc_St) : Option (Int32 × hc_St) := Option.bind (rec 2 [x1] σ) fun r1 => Option.bind (α := hc_St) (if r1.1 = 1 then (Option.bind (fm_X6_place x1 r1.2) fun r11 => Option.bind (fm_X9_say 3 r11 r1.2) fun r15 => some (r15)) else (if r1.1 = 2 then (Option.bind (fm_X6_place x1 r1.2) fun r21 => Option.bind (fm_X9_say 3 r21 r1.2) fun r25 => some (r25)) else (some (r1.2)))) fun r7 => Option.bind (α := hc_St) (if r1.1 = 3 then (Option.bind (fm_X6_op x1 r7) fun r35 => Option.bind (fm_X9_say 5 r35 r7) fun r39 => some (r39)) else (some (r7))) fun r31 => some (0, r31)
set_option maxRecDepth 20000 in
set_option maxHeartbeats 4000000 in
theorem okbX8_number (l : Launch) (E : hc_E) (A : Nat → Prop) (d : Nat) {kk : Nat} (n : Nat) (k0 : Nat) (rec : Nat → List Int32 → hc_St → Option (Int32 × hc_St)) (hD : kk + 1 * k0 + 9 ≤ d) (IH : ∀ (w : Nat) (a : List Int32) (σ : hc_St) (r : (Int32 × hc_St)), rec w a σ = some r → ∀ am, okg_X8_isTold l E A (d - 1) am w a σ r) {x1 : Int32} {σ : hc_St} {r : (Int32 × hc_St)} (h : bd_X8_number n k0 rec x1 σ = some r) (am : Nat → Nat → Nat) : hc_M l hc_V0 yX8_number (ws_ yX8_number cX8_number 3 none) d E A [.ref (E.2.1 8), .int x1] am [] σ (.inl (none)) r.2 := by
  have hd1 : 1 ≤ d := by omega
  have hd8 : 9 ≤ d := by omega
  refine hc_enter2 (own := RX8) [(0, .ref (E.2.1 8)), (1, .int x1)] pl_X8 rfl hc_V0_st hc_G0_nd rfl (Nat.le_of_ble_eq_true rfl) (fun X hC hem => ?_)
  unfold bd_X8_number at h
  refine hr_aload_n hC dX8_number_0 rfl ?_
  refine hr_iload_n hC dX8_number_1 rfl ?_
  obtain ⟨r1, e2, h⟩ := hx_bind h
  refine hs_callV0 hC 8 [_] _ dX8_number_2 q1622 q1624 qs61 q322 q1625 np_X8 rfl OB_8 pd_X8_typeOf (Nat.le_of_ble_eq_true rfl) hd1 (IH _ _ _ _ e2 am) rfl ?_
  refine hr_istore_n hC dX8_number_5 (by decide) ?_
  refine hr_iload_n hC dX8_number_6 rfl ?_
  refine hr_iconst (v := 1) hC dX8_number_7 rfl ?_
  obtain ⟨r7, e8, h⟩ := hx_bind h
  have J9 : hc_At hc_V0 E 3 X 32 [(0, .ref (E.2.1 8)), (1, .int x1), (2, .int r1.1)] [] r7 am [] := by
    refine hr_iload_n hC dX8_number_32 rfl ?_
    refine hr_iconst (v := 3) hC dX8_number_33 rfl ?_
    obtain ⟨r31, e32, h⟩ := hx_bind h
    have J33 : hc_At hc_V0 E 3 X 53 [] [] r31 am [] := by
      obtain rfl := Option.some.inj h
      exact hr_vret hC dX8_number_53
    clear h
    have h := e32
    refine hr_icmp_ne (x := _) hC 53 dX8_number_34 (by decide) (fun c30 => ?_) (fun c30 => ?_)
    · rw [if_neg c30] at h
      obtain rfl := Option.some.inj h
      exact hr_sub _ rfl (J33)
    · rw [if_pos c30] at h
      refine hr_aload_n hC dX8_number_37 rfl ?_
      refine hr_gO 9 hC F8_3 rfl dX8_number_38 q664 ?_
      refine hr_iconst (v := 5) hC dX8_number_41 rfl ?_
      refine hr_aload_n hC dX8_number_42 rfl ?_
      refine hr_gO 6 hC F8_0 rfl dX8_number_43 q661 ?_
      refine hr_iload_n hC dX8_number_46 rfl ?_
      obtain ⟨r35, e36, h⟩ := hx_bind h
      refine hs_callV0 hC 6 [_] _ dX8_number_47 q1638 q1639 q1640 q320 q1641 np_X6 rfl OB_6 pd_X6_op (Nat.le_of_ble_eq_true rfl) hd1 (okX6_op l E A (d - 1)  (by omega)  e36 am) rfl ?_
      obtain ⟨r39, e40, h⟩ := hx_bind h
      refine hs_callV0 hC 9 [_, _] _ dX8_number_50 q1597 q1598 q1599 q323 q1600 np_X9 rfl OB_9 pd_X9_say (Nat.le_of_ble_eq_true rfl) hd1 (okX9_say l E A (d - 1)  (by omega)  e40 am) rfl ?_
      obtain rfl := Option.some.inj h
      exact hr_sub _ rfl (J33)
  clear h
  have h := e8
  refine hr_icmp_eq (x := _) hC 16 dX8_number_8 (by decide) (fun c6 => ?_) (fun c6 => ?_)
  · rw [if_pos c6] at h
    refine hr_aload_n hC dX8_number_16 rfl ?_
    refine hr_gO 9 hC F8_3 rfl dX8_number_17 q664 ?_
    refine hr_iconst (v := 3) hC dX8_number_20 rfl ?_
    refine hr_aload_n hC dX8_number_21 rfl ?_
    refine hr_gO 6 hC F8_0 rfl dX8_number_22 q661 ?_
    refine hr_iload_n hC dX8_number_25 rfl ?_
    obtain ⟨r11, e12, h⟩ := hx_bind h
    refine hs_callV0 hC 6 [_] _ dX8_number_26 q1593 q1594 q1595 q320 q1596 np_X6 rfl OB_6 pd_X6_place (Nat.le_of_ble_eq_true rfl) hd1 (okX6_place l E A (d - 1)  (by omega)  e12 am) rfl ?_
    obtain ⟨r15, e16, h⟩ := hx_bind h
    refine hs_callV0 hC 9 [_, _] _ dX8_number_29 q1597 q1598 q1599 q323 q1600 np_X9 rfl OB_9 pd_X9_say (Nat.le_of_ble_eq_true rfl) hd1 (okX9_say l E A (d - 1)  (by omega)  e16 am) rfl ?_
    obtain rfl := Option.some.inj h
    exact hr_sub _ rfl (J9)
  · rw [if_neg c6] at h
    refine hr_iload_n hC dX8_number_11 rfl ?_
    refine hr_iconst (v := 2) hC dX8_number_12 rfl ?_
    refine hr_icmp_ne (x := _) hC 32 dX8_number_13 (by decide) (fun c20 => ?_) (fun c20 => ?_)
    · rw [if_neg c20] at h
      obtain rfl := Option.some.inj h
      exact hr_sub _ rfl (J9)
    · rw [if_pos c20] at h
      refine hr_aload_n hC dX8_number_16 rfl ?_
      refine hr_gO 9 hC F8_3 rfl dX8_number_17 q664 ?_
      refine hr_iconst (v := 3) hC dX8_number_20 rfl ?_
      refine hr_aload_n hC dX8_number_21 rfl ?_
      refine hr_gO 6 hC F8_0 rfl dX8_number_22 q661 ?_
      refine hr_iload_n hC dX8_number_25 rfl ?_
      obtain ⟨r21, e22, h⟩ := hx_bind h
      refine hs_callV0 hC 6 [_] _ dX8_number_26 q1593 q1594 q1595 q320 q1596 np_X6 rfl OB_6 pd_X6_place (Nat.le_of_ble_eq_true rfl) hd1 (okX6_place l E A (d - 1)  (by omega)  e22 am) rfl ?_
      obtain ⟨r25, e26, h⟩ := hx_bind h
      refine hs_callV0 hC 9 [_, _] _ dX8_number_29 q1597 q1598 q1599 q323 q1600 np_X9 rfl OB_9 pd_X9_say (Nat.le_of_ble_eq_true rfl) hd1 (okX9_say l E A (d - 1)  (by omega)  e26 am) rfl ?_
      obtain rfl := Option.some.inj h
      exact hr_sub _ rfl (J9)
def lp_X8_typeOf_203 (n : Nat) (k0 : Nat) (rec : Nat → List Int32 → hc_St → Option (Int32 × hc_St)) : Nat → Int32 → hc_St → Option (hc_St)
  | 0, _, _ => none
  | m + 1, y2, σ => if y2 = (-1) then (some (σ)) else (Option.bind (rec 1 [y2] σ) fun r11 => Option.bind (fm_X6_next y2 r11.2) fun r15 => lp_X8_typeOf_203 n k0 rec m r15 r11.2)
def lp_X8_typeOf_163 (n : Nat) (k0 : Nat) (rec : Nat → List Int32 → hc_St → Option (Int32 × hc_St)) : Nat → Int32 → hc_St → Option (hc_St)
  | 0, _, _ => none
  | m + 1, y2, σ => if y2 = (-1) then (some (σ)) else (Option.bind (fm_X6_first y2 σ) fun r62 => Option.bind (rec 1 [r62] σ) fun r66 => Option.bind (fm_X6_next y2 r66.2) fun r70 => lp_X8_typeOf_163 n k0 rec m r70 r66.2)
/-- HomeCompiler$Checker.typeOf(I)I -/
def bd_X8_typeOf (n : Nat) (k0 : Nat) (rec : Nat → List Int32 → hc_St → Option (Int32 × hc_St)) (x1 : Int32) (σ : hc_St) : Option (Int32 × hc_St) := Option.bind (fm_X6_kind x1 σ) fun r1 => if r1 = 30 then (Option.bind (fm_X6_first x1 σ) fun r24 => Option.bind (rec 8 [r24] σ) fun r28 => Option.bind (fm_X6_first x1 r28.2) fun r32 => Option.bind (fm_X6_next r32 r28.2) fun r36 => Option.bind (rec 1 [r36] r28.2) fun r40 => some (0, r40.2)) else if r1 = 32 then (Option.bind (fm_X6_first x1 σ) fun r44 => Option.bind (rec 1 [r44] σ) fun r48 => Option.bind (fm_X6_first x1 r48.2) fun r52 => Option.bind (fm_X6_next r52 r48.2) fun r56 => Option.bind (lp_X8_typeOf_163 n k0 rec n r56 r48.2) fun r74 => some (0, r74)) else if r1 = 35 then (Option.bind (fm_X6_first x1 σ) fun r79 => Option.bind (rec 8 [r79] σ) fun r83 => some (0, r83.2)) else if r1 = 36 then (Option.bind (fm_X6_first x1 σ) fun r87 => Option.bind (rec 8 [r87] σ) fun r91 => some (0, r91.2)) else if r1 = 37 then (some (0, σ)) else if r1 = 38 then (Option.bind (fm_X8_typeOfName x1 σ) fun r95 => some (r95.1, r95.2)) else if r1 = 39 then (Option.bind (rec 3 [x1] σ) fun r99 => some (r99.1, r99.2)) else if r1 = 40 then (Option.bind (rec 7 [x1] σ) fun r103 => some (r103.1, r103.2)) else (Option.bind (fm_X6_first x1 σ) fun r5 => Option.bind (lp_X8_typeOf_203 n k0 rec n r5 σ) fun r19 => some (0, r19))
set_option maxRecDepth 20000 in
set_option maxHeartbeats 4000000 in
theorem ll_X8_typeOf_203 {l : Launch} {E : hc_E} {A : Nat → Prop} {am : Nat → Nat → Nat} {d : Nat} {kk : Nat} {X : hc_X} (n : Nat) (k0 : Nat) (rec : Nat → List Int32 → hc_St → Option (Int32 × hc_St)) (hD : kk + 1 * k0 + 9 ≤ d) (hem : X.2.2.2.2.2.2.2.2.2.1.exceptionTable.isEmpty = true) (IH : ∀ (w : Nat) (a : List Int32) (σ : hc_St) (r : (Int32 × hc_St)), rec w a σ = some r → ∀ am, okg_X8_isTold l E A (d - 1) am w a σ r) {oc : hc_Oc} {σe : hc_St} (hC : hc_C hc_V0 E cX8_typeOf 3 RX8 (some .int) d oc σe (l, A, am, []) X) : ∀ (m : Nat) (σ : hc_St) (y2 : Int32) (rl : hc_St) (am1 : Nat → Nat → Nat), lp_X8_typeOf_203 n k0 rec m y2 σ = some rl → (hc_At hc_V0 E 3 X 225 [] [] rl am1 []) → hc_At hc_V0 E 3 X 203 [(0, .ref (E.2.1 8)), (2, .int y2)] [] σ am1 [] := by
  have hd1 : 1 ≤ d := by omega
  have hd8 : 9 ≤ d := by omega
  intro m
  induction m with
  | zero =>
    intro σ y2 rl am1 h
    cases h
  | succ m ih =>
    intro σ y2 rl am1 h JX
    rw [lp_X8_typeOf_203] at h
    refine hr_iload_n hC dX8_typeOf_203 rfl ?_
    refine hr_iconst (v := (-1)) hC dX8_typeOf_204 rfl ?_
    refine hr_icmp_eq (x := _) hC 225 dX8_typeOf_205 (by decide) (fun c10 => ?_) (fun c10 => ?_)
    · rw [if_pos c10] at h
      obtain rfl := Option.some.inj h
      exact hr_sub _ rfl (JX)
    · rw [if_neg c10] at h
      refine hr_aload_n hC dX8_typeOf_208 rfl ?_
      refine hr_iload_n hC dX8_typeOf_209 rfl ?_
      obtain ⟨r11, e12, h⟩ := hx_bind h
      refine hs_callV0 hC 8 [_] _ dX8_typeOf_210 q1618 q1620 qs60 q322 q1621 np_X8 rfl OB_8 pd_X8_number (Nat.le_of_ble_eq_true rfl) hd1 (IH _ _ _ _ e12 am1) rfl ?_
      refine hr_aload_n hC dX8_typeOf_213 rfl ?_
      refine hr_gO 6 hC F8_0 rfl dX8_typeOf_214 q661 ?_
      refine hr_iload_n hC dX8_typeOf_217 rfl ?_
      obtain ⟨r15, e16, h⟩ := hx_bind h
      refine hs_callV0 hC 6 [_] _ dX8_typeOf_218 q1602 q1603 q1604 q320 q1605 np_X6 rfl OB_6 pd_X6_next (Nat.le_of_ble_eq_true rfl) hd1 (okX6_next l E A (d - 1)  (by omega)  e16 am1) rfl ?_
      refine hr_istore_n hC dX8_typeOf_221 (by decide) ?_
      refine hr_goto hC 203 dX8_typeOf_222 (by decide) ?_
      exact hr_sub _ rfl (ih _ _ _ am1 h JX)
set_option maxRecDepth 20000 in
set_option maxHeartbeats 4000000 in
theorem ll_X8_typeOf_163 {l : Launch} {E : hc_E} {A : Nat → Prop} {am : Nat → Nat → Nat} {d : Nat} {kk : Nat} {X : hc_X} (n : Nat) (k0 : Nat) (rec : Nat → List Int32 → hc_St → Option (Int32 × hc_St)) (hD : kk + 1 * k0 + 9 ≤ d) (hem : X.2.2.2.2.2.2.2.2.2.1.exceptionTable.isEmpty = true) (IH : ∀ (w : Nat) (a : List Int32) (σ : hc_St) (r : (Int32 × hc_St)), rec w a σ = some r → ∀ am, okg_X8_isTold l E A (d - 1) am w a σ r) {oc : hc_Oc} {σe : hc_St} (hC : hc_C hc_V0 E cX8_typeOf 3 RX8 (some .int) d oc σe (l, A, am, []) X) : ∀ (m : Nat) (σ : hc_St) (y2 : Int32) (rl : hc_St) (am1 : Nat → Nat → Nat), lp_X8_typeOf_163 n k0 rec m y2 σ = some rl → (hc_At hc_V0 E 3 X 192 [] [] rl am1 []) → hc_At hc_V0 E 3 X 163 [(0, .ref (E.2.1 8)), (2, .int y2)] [] σ am1 [] := by
  have hd1 : 1 ≤ d := by omega
  have hd8 : 9 ≤ d := by omega
  intro m
  induction m with
  | zero =>
    intro σ y2 rl am1 h
    cases h
  | succ m ih =>
    intro σ y2 rl am1 h JX
    rw [lp_X8_typeOf_163] at h
    refine hr_iload_n hC dX8_typeOf_163 rfl ?_
    refine hr_iconst (v := (-1)) hC dX8_typeOf_164 rfl ?_
    refine hr_icmp_eq (x := _) hC 192 dX8_typeOf_165 (by decide) (fun c61 => ?_) (fun c61 => ?_)
    · rw [if_pos c61] at h
      obtain rfl := Option.some.inj h
      exact hr_sub _ rfl (JX)
    · rw [if_neg c61] at h
      refine hr_aload_n hC dX8_typeOf_168 rfl ?_
      refine hr_aload_n hC dX8_typeOf_169 rfl ?_
      refine hr_gO 6 hC F8_0 rfl dX8_typeOf_170 q661 ?_
      refine hr_iload_n hC dX8_typeOf_173 rfl ?_
      obtain ⟨r62, e63, h⟩ := hx_bind h
      refine hs_callV0 hC 6 [_] _ dX8_typeOf_174 q1575 q1576 q1577 q320 q1578 np_X6 rfl OB_6 pd_X6_first (Nat.le_of_ble_eq_true rfl) hd1 (okX6_first l E A (d - 1)  (by omega)  e63 am1) rfl ?_
      obtain ⟨r66, e67, h⟩ := hx_bind h
      refine hs_callV0 hC 8 [_] _ dX8_typeOf_177 q1618 q1620 qs60 q322 q1621 np_X8 rfl OB_8 pd_X8_number (Nat.le_of_ble_eq_true rfl) hd1 (IH _ _ _ _ e67 am1) rfl ?_
      refine hr_aload_n hC dX8_typeOf_180 rfl ?_
      refine hr_gO 6 hC F8_0 rfl dX8_typeOf_181 q661 ?_
      refine hr_iload_n hC dX8_typeOf_184 rfl ?_
      obtain ⟨r70, e71, h⟩ := hx_bind h
      refine hs_callV0 hC 6 [_] _ dX8_typeOf_185 q1602 q1603 q1604 q320 q1605 np_X6 rfl OB_6 pd_X6_next (Nat.le_of_ble_eq_true rfl) hd1 (okX6_next l E A (d - 1)  (by omega)  e71 am1) rfl ?_
      refine hr_istore_n hC dX8_typeOf_188 (by decide) ?_
      refine hr_goto hC 163 dX8_typeOf_189 (by decide) ?_
      exact hr_sub _ rfl (ih _ _ _ am1 h JX)
set_option maxRecDepth 20000 in
set_option maxHeartbeats 4000000 in
theorem okbX8_typeOf (l : Launch) (E : hc_E) (A : Nat → Prop) (d : Nat) {kk : Nat} (n : Nat) (k0 : Nat) (rec : Nat → List Int32 → hc_St → Option (Int32 × hc_St)) (hD : kk + 1 * k0 + 9 ≤ d) (IH : ∀ (w : Nat) (a : List Int32) (σ : hc_St) (r : (Int32 × hc_St)), rec w a σ = some r → ∀ am, okg_X8_isTold l E A (d - 1) am w a σ r) {x1 : Int32} {σ : hc_St} {r : (Int32 × hc_St)} (h : bd_X8_typeOf n k0 rec x1 σ = some r) (am : Nat → Nat → Nat) : hc_M l hc_V0 yX8_typeOf (ws_ yX8_typeOf cX8_typeOf 3 (some .int)) d E A [.ref (E.2.1 8), .int x1] am [] σ (.inl (some (.int r.1))) r.2 := by
  have hd1 : 1 ≤ d := by omega
  have hd8 : 9 ≤ d := by omega
  refine hc_enter2 (own := RX8) [(0, .ref (E.2.1 8)), (1, .int x1)] pl_X8 rfl hc_V0_st hc_G0_nd rfl (Nat.le_of_ble_eq_true rfl) (fun X hC hem => ?_)
  unfold bd_X8_typeOf at h
  refine hr_aload_n hC dX8_typeOf_0 rfl ?_
  refine hr_gO 6 hC F8_0 rfl dX8_typeOf_1 q661 ?_
  refine hr_iload_n hC dX8_typeOf_4 rfl ?_
  obtain ⟨r1, e2, h⟩ := hx_bind h
  refine hs_callV0 hC 6 [_] _ dX8_typeOf_5 q1579 q1369 q1370 q320 q1371 np_X6 rfl OB_6 pd_X6_kind (Nat.le_of_ble_eq_true rfl) hd1 (okX6_kind l E A (d - 1)  (by omega)  e2 am) rfl ?_
  by_cases c107 : r1 = 30
  · rw [if_pos c107] at h
    refine hr_tableIn hC 88 dX8_typeOf_8 (by rw [c107] <;> decide) (by rw [c107] <;> decide) (by rw [c107] <;> rfl) (by decide) ?_
    refine hr_aload_n hC dX8_typeOf_88 rfl ?_
    refine hr_aload_n hC dX8_typeOf_89 rfl ?_
    refine hr_gO 6 hC F8_0 rfl dX8_typeOf_90 q661 ?_
    refine hr_iload_n hC dX8_typeOf_93 rfl ?_
    obtain ⟨r24, e25, h⟩ := hx_bind h
    refine hs_callV0 hC 6 [_] _ dX8_typeOf_94 q1575 q1576 q1577 q320 q1578 np_X6 rfl OB_6 pd_X6_first (Nat.le_of_ble_eq_true rfl) hd1 (okX6_first l E A (d - 1)  (by omega)  e25 am) rfl ?_
    obtain ⟨r28, e29, h⟩ := hx_bind h
    refine hs_callV0 hC 8 [_] _ dX8_typeOf_97 q1694 q1696 qs69 q322 q1697 np_X8 rfl OB_8 pd_X8_target (Nat.le_of_ble_eq_true rfl) hd1 (IH _ _ _ _ e29 am) rfl ?_
    refine hr_aload_n hC dX8_typeOf_100 rfl ?_
    refine hr_aload_n hC dX8_typeOf_101 rfl ?_
    refine hr_gO 6 hC F8_0 rfl dX8_typeOf_102 q661 ?_
    refine hr_aload_n hC dX8_typeOf_105 rfl ?_
    refine hr_gO 6 hC F8_0 rfl dX8_typeOf_106 q661 ?_
    refine hr_iload_n hC dX8_typeOf_109 rfl ?_
    obtain ⟨r32, e33, h⟩ := hx_bind h
    refine hs_callV0 hC 6 [_] _ dX8_typeOf_110 q1575 q1576 q1577 q320 q1578 np_X6 rfl OB_6 pd_X6_first (Nat.le_of_ble_eq_true rfl) hd1 (okX6_first l E A (d - 1)  (by omega)  e33 am) rfl ?_
    obtain ⟨r36, e37, h⟩ := hx_bind h
    refine hs_callV0 hC 6 [_] _ dX8_typeOf_113 q1602 q1603 q1604 q320 q1605 np_X6 rfl OB_6 pd_X6_next (Nat.le_of_ble_eq_true rfl) hd1 (okX6_next l E A (d - 1)  (by omega)  e37 am) rfl ?_
    obtain ⟨r40, e41, h⟩ := hx_bind h
    refine hs_callV0 hC 8 [_] _ dX8_typeOf_116 q1618 q1620 qs60 q322 q1621 np_X8 rfl OB_8 pd_X8_number (Nat.le_of_ble_eq_true rfl) hd1 (IH _ _ _ _ e41 am) rfl ?_
    refine hr_iconst (v := 0) hC dX8_typeOf_119 rfl ?_
    obtain rfl := Option.some.inj h
    exact hr_iret hC dX8_typeOf_120
  rw [if_neg c107] at h
  by_cases c108 : r1 = 32
  · rw [if_pos c108] at h
    refine hr_tableIn hC 135 dX8_typeOf_8 (by rw [c108] <;> decide) (by rw [c108] <;> decide) (by rw [c108] <;> rfl) (by decide) ?_
    refine hr_aload_n hC dX8_typeOf_135 rfl ?_
    refine hr_aload_n hC dX8_typeOf_136 rfl ?_
    refine hr_gO 6 hC F8_0 rfl dX8_typeOf_137 q661 ?_
    refine hr_iload_n hC dX8_typeOf_140 rfl ?_
    obtain ⟨r44, e45, h⟩ := hx_bind h
    refine hs_callV0 hC 6 [_] _ dX8_typeOf_141 q1575 q1576 q1577 q320 q1578 np_X6 rfl OB_6 pd_X6_first (Nat.le_of_ble_eq_true rfl) hd1 (okX6_first l E A (d - 1)  (by omega)  e45 am) rfl ?_
    obtain ⟨r48, e49, h⟩ := hx_bind h
    refine hs_callV0 hC 8 [_] _ dX8_typeOf_144 q1618 q1620 qs60 q322 q1621 np_X8 rfl OB_8 pd_X8_number (Nat.le_of_ble_eq_true rfl) hd1 (IH _ _ _ _ e49 am) rfl ?_
    refine hr_aload_n hC dX8_typeOf_147 rfl ?_
    refine hr_gO 6 hC F8_0 rfl dX8_typeOf_148 q661 ?_
    refine hr_aload_n hC dX8_typeOf_151 rfl ?_
    refine hr_gO 6 hC F8_0 rfl dX8_typeOf_152 q661 ?_
    refine hr_iload_n hC dX8_typeOf_155 rfl ?_
    obtain ⟨r52, e53, h⟩ := hx_bind h
    refine hs_callV0 hC 6 [_] _ dX8_typeOf_156 q1575 q1576 q1577 q320 q1578 np_X6 rfl OB_6 pd_X6_first (Nat.le_of_ble_eq_true rfl) hd1 (okX6_first l E A (d - 1)  (by omega)  e53 am) rfl ?_
    obtain ⟨r56, e57, h⟩ := hx_bind h
    refine hs_callV0 hC 6 [_] _ dX8_typeOf_159 q1602 q1603 q1604 q320 q1605 np_X6 rfl OB_6 pd_X6_next (Nat.le_of_ble_eq_true rfl) hd1 (okX6_next l E A (d - 1)  (by omega)  e57 am) rfl ?_
    refine hr_istore_n hC dX8_typeOf_162 (by decide) ?_
    obtain ⟨r74, e75, h⟩ := hx_bind h
    refine hr_sub _ rfl (ll_X8_typeOf_163 n k0 rec hD hem IH hC n _ _ _ am e75 ?_)
    refine hr_iconst (v := 0) hC dX8_typeOf_192 rfl ?_
    obtain rfl := Option.some.inj h
    exact hr_iret hC dX8_typeOf_193
  rw [if_neg c108] at h
  by_cases c109 : r1 = 35
  · rw [if_pos c109] at h
    refine hr_tableIn hC 121 dX8_typeOf_8 (by rw [c109] <;> decide) (by rw [c109] <;> decide) (by rw [c109] <;> rfl) (by decide) ?_
    refine hr_aload_n hC dX8_typeOf_121 rfl ?_
    refine hr_aload_n hC dX8_typeOf_122 rfl ?_
    refine hr_gO 6 hC F8_0 rfl dX8_typeOf_123 q661 ?_
    refine hr_iload_n hC dX8_typeOf_126 rfl ?_
    obtain ⟨r79, e80, h⟩ := hx_bind h
    refine hs_callV0 hC 6 [_] _ dX8_typeOf_127 q1575 q1576 q1577 q320 q1578 np_X6 rfl OB_6 pd_X6_first (Nat.le_of_ble_eq_true rfl) hd1 (okX6_first l E A (d - 1)  (by omega)  e80 am) rfl ?_
    obtain ⟨r83, e84, h⟩ := hx_bind h
    refine hs_callV0 hC 8 [_] _ dX8_typeOf_130 q1694 q1696 qs69 q322 q1697 np_X8 rfl OB_8 pd_X8_target (Nat.le_of_ble_eq_true rfl) hd1 (IH _ _ _ _ e84 am) rfl ?_
    refine hr_iconst (v := 0) hC dX8_typeOf_133 rfl ?_
    obtain rfl := Option.some.inj h
    exact hr_iret hC dX8_typeOf_134
  rw [if_neg c109] at h
  by_cases c110 : r1 = 36
  · rw [if_pos c110] at h
    refine hr_tableIn hC 121 dX8_typeOf_8 (by rw [c110] <;> decide) (by rw [c110] <;> decide) (by rw [c110] <;> rfl) (by decide) ?_
    refine hr_aload_n hC dX8_typeOf_121 rfl ?_
    refine hr_aload_n hC dX8_typeOf_122 rfl ?_
    refine hr_gO 6 hC F8_0 rfl dX8_typeOf_123 q661 ?_
    refine hr_iload_n hC dX8_typeOf_126 rfl ?_
    obtain ⟨r87, e88, h⟩ := hx_bind h
    refine hs_callV0 hC 6 [_] _ dX8_typeOf_127 q1575 q1576 q1577 q320 q1578 np_X6 rfl OB_6 pd_X6_first (Nat.le_of_ble_eq_true rfl) hd1 (okX6_first l E A (d - 1)  (by omega)  e88 am) rfl ?_
    obtain ⟨r91, e92, h⟩ := hx_bind h
    refine hs_callV0 hC 8 [_] _ dX8_typeOf_130 q1694 q1696 qs69 q322 q1697 np_X8 rfl OB_8 pd_X8_target (Nat.le_of_ble_eq_true rfl) hd1 (IH _ _ _ _ e92 am) rfl ?_
    refine hr_iconst (v := 0) hC dX8_typeOf_133 rfl ?_
    obtain rfl := Option.some.inj h
    exact hr_iret hC dX8_typeOf_134
  rw [if_neg c110] at h
  by_cases c111 : r1 = 37
  · rw [if_pos c111] at h
    refine hr_tableIn hC 68 dX8_typeOf_8 (by rw [c111] <;> decide) (by rw [c111] <;> decide) (by rw [c111] <;> rfl) (by decide) ?_
    refine hr_iconst (v := 0) hC dX8_typeOf_68 rfl ?_
    obtain rfl := Option.some.inj h
    exact hr_iret hC dX8_typeOf_69
  rw [if_neg c111] at h
  by_cases c112 : r1 = 38
  · rw [if_pos c112] at h
    refine hr_tableIn hC 70 dX8_typeOf_8 (by rw [c112] <;> decide) (by rw [c112] <;> decide) (by rw [c112] <;> rfl) (by decide) ?_
    refine hr_aload_n hC dX8_typeOf_70 rfl ?_
    refine hr_iload_n hC dX8_typeOf_71 rfl ?_
    obtain ⟨r95, e96, h⟩ := hx_bind h
    refine hs_callV0 hC 8 [_] _ dX8_typeOf_72 q1626 q1628 qs62 q322 q1629 np_X8 rfl OB_8 pd_X8_typeOfName (Nat.le_of_ble_eq_true rfl) hd1 (okX8_typeOfName l E A (d - 1)  (by omega)  e96 am) rfl ?_
    obtain rfl := Option.some.inj h
    exact hr_iret hC dX8_typeOf_75
  rw [if_neg c112] at h
  by_cases c113 : r1 = 39
  · rw [if_pos c113] at h
    refine hr_tableIn hC 76 dX8_typeOf_8 (by rw [c113] <;> decide) (by rw [c113] <;> decide) (by rw [c113] <;> rfl) (by decide) ?_
    refine hr_aload_n hC dX8_typeOf_76 rfl ?_
    refine hr_iload_n hC dX8_typeOf_77 rfl ?_
    obtain ⟨r99, e100, h⟩ := hx_bind h
    refine hs_callV0 hC 8 [_] _ dX8_typeOf_78 q1662 q1664 qs64 q322 q1665 np_X8 rfl OB_8 pd_X8_typeOfCall (Nat.le_of_ble_eq_true rfl) hd1 (IH _ _ _ _ e100 am) rfl ?_
    obtain rfl := Option.some.inj h
    exact hr_iret hC dX8_typeOf_81
  rw [if_neg c113] at h
  by_cases c114 : r1 = 40
  · rw [if_pos c114] at h
    refine hr_tableIn hC 82 dX8_typeOf_8 (by rw [c114] <;> decide) (by rw [c114] <;> decide) (by rw [c114] <;> rfl) (by decide) ?_
    refine hr_aload_n hC dX8_typeOf_82 rfl ?_
    refine hr_iload_n hC dX8_typeOf_83 rfl ?_
    obtain ⟨r103, e104, h⟩ := hx_bind h
    refine hs_callV0 hC 8 [_] _ dX8_typeOf_84 q1690 q1692 qs68 q322 q1693 np_X8 rfl OB_8 pd_X8_typeOfIndex (Nat.le_of_ble_eq_true rfl) hd1 (IH _ _ _ _ e104 am) rfl ?_
    obtain rfl := Option.some.inj h
    exact hr_iret hC dX8_typeOf_87
  rw [if_neg c114] at h
  refine hr_tableD hC 194 dX8_typeOf_8 (ks := [30, 32, 35, 36, 37, 38, 39, 40]) (hc_l1 (hc_ne c107 rfl) (hc_l1 (hc_ne c108 rfl) (hc_l1 (hc_ne c109 rfl) (hc_l1 (hc_ne c110 rfl) (hc_l1 (hc_ne c111 rfl) (hc_l1 (hc_ne c112 rfl) (hc_l1 (hc_ne c113 rfl) (hc_l1 (hc_ne c114 rfl) hc_l0)))))))) (by decide) (by decide) (by decide) ?_
  refine hr_aload_n hC dX8_typeOf_194 rfl ?_
  refine hr_gO 6 hC F8_0 rfl dX8_typeOf_195 q661 ?_
  refine hr_iload_n hC dX8_typeOf_198 rfl ?_
  obtain ⟨r5, e6, h⟩ := hx_bind h
  refine hs_callV0 hC 6 [_] _ dX8_typeOf_199 q1575 q1576 q1577 q320 q1578 np_X6 rfl OB_6 pd_X6_first (Nat.le_of_ble_eq_true rfl) hd1 (okX6_first l E A (d - 1)  (by omega)  e6 am) rfl ?_
  refine hr_istore_n hC dX8_typeOf_202 (by decide) ?_
  obtain ⟨r19, e20, h⟩ := hx_bind h
  refine hr_sub _ rfl (ll_X8_typeOf_203 n k0 rec hD hem IH hC n _ _ _ am e20 ?_)
  refine hr_iconst (v := 0) hC dX8_typeOf_225 rfl ?_
  obtain rfl := Option.some.inj h
  exact hr_iret hC dX8_typeOf_226
def lp_X8_typeOfCall_58 (n : Nat) (k0 : Nat) (rec : Nat → List Int32 → hc_St → Option (Int32 × hc_St)) : Nat → Int32 → hc_St → Option (hc_St)
  | 0, _, _ => none
  | m + 1, y3, σ => if y3 = (-1) then (some (σ)) else (Option.bind (rec 2 [y3] σ) fun r25 => Option.bind (fm_X6_next y3 r25.2) fun r29 => lp_X8_typeOfCall_58 n k0 rec m r29 r25.2)
/-- HomeCompiler$Checker.typeOfCall(I)I -/
def bd_X8_typeOfCall (n : Nat) (k0 : Nat) (rec : Nat → List Int32 → hc_St → Option (Int32 × hc_St)) (x1 : Int32) (σ : hc_St) : Option (Int32 × hc_St) := Option.bind (fm_X6_value x1 σ) fun r1 => Option.bind (fm_X10_find r1 σ) fun r5 => if r5 = (-1) then (Option.bind (fm_X6_op x1 σ) fun r11 => Option.bind (fm_X9_say 2 r11 σ) fun r15 => Option.bind (fm_X6_first x1 r15) fun r19 => Option.bind (lp_X8_typeOfCall_58 n k0 rec n r19 r15) fun r33 => some (4, r33)) else (Option.bind (fm_X10_sort r5 σ) fun r38 => if r38 = 2 then (Option.bind (fm_X10_value r5 σ) fun r44 => Option.bind (fm_X6_setExtra x1 r44 σ) fun r48 => Option.bind (α := hc_St × Int32) (if 15 ≤ r44 then (hk (inb ((r44 - 15)) (gL r48 8 7)) <| Option.bind (rec 6 [x1, ((gC r48 8 7 ((r44 - 15))))] r48) fun r59 => some (r59.2, r59.1)) else (Option.bind (fm_X2_takes r44 r48) fun r63 => Option.bind (rec 4 [x1, r63] r48) fun r67 => some (r67.2, r67.1))) fun r54 => some (r54.2, r54.1)) else (Option.bind (fm_X6_op x1 σ) fun r71 => Option.bind (fm_X9_say 2 r71 σ) fun r75 => Option.bind (fm_X6_first x1 r75) fun r79 => Option.bind (lp_X8_typeOfCall_58 n k0 rec n r79 r75) fun r83 => some (4, r83)))
set_option maxRecDepth 20000 in
set_option maxHeartbeats 4000000 in
theorem ll_X8_typeOfCall_58 {l : Launch} {E : hc_E} {A : Nat → Prop} {am : Nat → Nat → Nat} {d : Nat} {kk : Nat} {X : hc_X} (n : Nat) (k0 : Nat) (rec : Nat → List Int32 → hc_St → Option (Int32 × hc_St)) (hD : kk + 1 * k0 + 9 ≤ d) (hem : X.2.2.2.2.2.2.2.2.2.1.exceptionTable.isEmpty = true) (IH : ∀ (w : Nat) (a : List Int32) (σ : hc_St) (r : (Int32 × hc_St)), rec w a σ = some r → ∀ am, okg_X8_isTold l E A (d - 1) am w a σ r) {oc : hc_Oc} {σe : hc_St} (hC : hc_C hc_V0 E cX8_typeOfCall 5 RX8 (some .int) d oc σe (l, A, am, []) X) : ∀ (m : Nat) (σ : hc_St) (y3 : Int32) (rl : hc_St) (am1 : Nat → Nat → Nat), lp_X8_typeOfCall_58 n k0 rec m y3 σ = some rl → (hc_At hc_V0 E 5 X 82 [] [] rl am1 []) → hc_At hc_V0 E 5 X 58 [(0, .ref (E.2.1 8)), (3, .int y3)] [] σ am1 [] := by
  have hd1 : 1 ≤ d := by omega
  have hd8 : 9 ≤ d := by omega
  intro m
  induction m with
  | zero =>
    intro σ y3 rl am1 h
    cases h
  | succ m ih =>
    intro σ y3 rl am1 h JX
    rw [lp_X8_typeOfCall_58] at h
    refine hr_iload_n hC dX8_typeOfCall_58 rfl ?_
    refine hr_iconst (v := (-1)) hC dX8_typeOfCall_59 rfl ?_
    refine hr_icmp_eq (x := _) hC 82 dX8_typeOfCall_60 (by decide) (fun c24 => ?_) (fun c24 => ?_)
    · rw [if_pos c24] at h
      obtain rfl := Option.some.inj h
      exact hr_sub _ rfl (JX)
    · rw [if_neg c24] at h
      refine hr_aload_n hC dX8_typeOfCall_63 rfl ?_
      refine hr_iload_n hC dX8_typeOfCall_64 rfl ?_
      obtain ⟨r25, e26, h⟩ := hx_bind h
      refine hs_callV0 hC 8 [_] _ dX8_typeOfCall_65 q1622 q1624 qs61 q322 q1625 np_X8 rfl OB_8 pd_X8_typeOf (Nat.le_of_ble_eq_true rfl) hd1 (IH _ _ _ _ e26 am1) rfl ?_
      refine hr_istore hC dX8_typeOfCall_68 (by decide) ?_
      refine hr_aload_n hC dX8_typeOfCall_70 rfl ?_
      refine hr_gO 6 hC F8_0 rfl dX8_typeOfCall_71 q661 ?_
      refine hr_iload_n hC dX8_typeOfCall_74 rfl ?_
      obtain ⟨r29, e30, h⟩ := hx_bind h
      refine hs_callV0 hC 6 [_] _ dX8_typeOfCall_75 q1602 q1603 q1604 q320 q1605 np_X6 rfl OB_6 pd_X6_next (Nat.le_of_ble_eq_true rfl) hd1 (okX6_next l E A (d - 1)  (by omega)  e30 am1) rfl ?_
      refine hr_istore_n hC dX8_typeOfCall_78 (by decide) ?_
      refine hr_goto hC 58 dX8_typeOfCall_79 (by decide) ?_
      exact hr_sub _ rfl (ih _ _ _ am1 h JX)
set_option maxRecDepth 20000 in
set_option maxHeartbeats 4000000 in
theorem okbX8_typeOfCall (l : Launch) (E : hc_E) (A : Nat → Prop) (d : Nat) {kk : Nat} (n : Nat) (k0 : Nat) (rec : Nat → List Int32 → hc_St → Option (Int32 × hc_St)) (hD : kk + 1 * k0 + 9 ≤ d) (IH : ∀ (w : Nat) (a : List Int32) (σ : hc_St) (r : (Int32 × hc_St)), rec w a σ = some r → ∀ am, okg_X8_isTold l E A (d - 1) am w a σ r) {x1 : Int32} {σ : hc_St} {r : (Int32 × hc_St)} (h : bd_X8_typeOfCall n k0 rec x1 σ = some r) (am : Nat → Nat → Nat) : hc_M l hc_V0 yX8_typeOfCall (ws_ yX8_typeOfCall cX8_typeOfCall 5 (some .int)) d E A [.ref (E.2.1 8), .int x1] am [] σ (.inl (some (.int r.1))) r.2 := by
  have hd1 : 1 ≤ d := by omega
  have hd8 : 9 ≤ d := by omega
  refine hc_enter2 (own := RX8) [(0, .ref (E.2.1 8)), (1, .int x1)] pl_X8 rfl hc_V0_st hc_G0_nd rfl (Nat.le_of_ble_eq_true rfl) (fun X hC hem => ?_)
  unfold bd_X8_typeOfCall at h
  refine hr_aload_n hC dX8_typeOfCall_0 rfl ?_
  refine hr_gO 10 hC F8_4 rfl dX8_typeOfCall_1 q665 ?_
  refine hr_aload_n hC dX8_typeOfCall_4 rfl ?_
  refine hr_gO 6 hC F8_0 rfl dX8_typeOfCall_5 q661 ?_
  refine hr_iload_n hC dX8_typeOfCall_8 rfl ?_
  obtain ⟨r1, e2, h⟩ := hx_bind h
  refine hs_callV0 hC 6 [_] _ dX8_typeOfCall_9 q1585 q1586 q1587 q320 q1588 np_X6 rfl OB_6 pd_X6_value (Nat.le_of_ble_eq_true rfl) hd1 (okX6_value l E A (d - 1)  (by omega)  e2 am) rfl ?_
  obtain ⟨r5, e6, h⟩ := hx_bind h
  refine hs_callV0 hC 10 [_] _ dX8_typeOfCall_12 q1630 q1631 q1632 q324 q1633 np_X10 rfl OB_10 pd_X10_find (Nat.le_of_ble_eq_true rfl) hd1 (okX10_find l E A (d - 1)  (by omega)  e6 am) rfl ?_
  refine hr_istore_n hC dX8_typeOfCall_15 (by decide) ?_
  refine hr_iload_n hC dX8_typeOfCall_16 rfl ?_
  refine hr_iconst (v := (-1)) hC dX8_typeOfCall_17 rfl ?_
  refine hr_icmp_eq (x := _) hC 33 dX8_typeOfCall_18 (by decide) (fun c10 => ?_) (fun c10 => ?_)
  · rw [if_pos c10] at h
    refine hr_aload_n hC dX8_typeOfCall_33 rfl ?_
    refine hr_gO 9 hC F8_3 rfl dX8_typeOfCall_34 q664 ?_
    refine hr_iconst (v := 2) hC dX8_typeOfCall_37 rfl ?_
    refine hr_aload_n hC dX8_typeOfCall_38 rfl ?_
    refine hr_gO 6 hC F8_0 rfl dX8_typeOfCall_39 q661 ?_
    refine hr_iload_n hC dX8_typeOfCall_42 rfl ?_
    obtain ⟨r11, e12, h⟩ := hx_bind h
    refine hs_callV0 hC 6 [_] _ dX8_typeOfCall_43 q1638 q1639 q1640 q320 q1641 np_X6 rfl OB_6 pd_X6_op (Nat.le_of_ble_eq_true rfl) hd1 (okX6_op l E A (d - 1)  (by omega)  e12 am) rfl ?_
    obtain ⟨r15, e16, h⟩ := hx_bind h
    refine hs_callV0 hC 9 [_, _] _ dX8_typeOfCall_46 q1597 q1598 q1599 q323 q1600 np_X9 rfl OB_9 pd_X9_say (Nat.le_of_ble_eq_true rfl) hd1 (okX9_say l E A (d - 1)  (by omega)  e16 am) rfl ?_
    refine hr_aload_n hC dX8_typeOfCall_49 rfl ?_
    refine hr_gO 6 hC F8_0 rfl dX8_typeOfCall_50 q661 ?_
    refine hr_iload_n hC dX8_typeOfCall_53 rfl ?_
    obtain ⟨r19, e20, h⟩ := hx_bind h
    refine hs_callV0 hC 6 [_] _ dX8_typeOfCall_54 q1575 q1576 q1577 q320 q1578 np_X6 rfl OB_6 pd_X6_first (Nat.le_of_ble_eq_true rfl) hd1 (okX6_first l E A (d - 1)  (by omega)  e20 am) rfl ?_
    refine hr_istore_n hC dX8_typeOfCall_57 (by decide) ?_
    obtain ⟨r33, e34, h⟩ := hx_bind h
    refine hr_sub _ rfl (ll_X8_typeOfCall_58 n k0 rec hD hem IH hC n _ _ _ am e34 ?_)
    refine hr_iconst (v := 4) hC dX8_typeOfCall_82 rfl ?_
    obtain rfl := Option.some.inj h
    exact hr_iret hC dX8_typeOfCall_83
  · rw [if_neg c10] at h
    refine hr_aload_n hC dX8_typeOfCall_21 rfl ?_
    refine hr_gO 10 hC F8_4 rfl dX8_typeOfCall_22 q665 ?_
    refine hr_iload_n hC dX8_typeOfCall_25 rfl ?_
    obtain ⟨r38, e39, h⟩ := hx_bind h
    refine hs_callV0 hC 10 [_] _ dX8_typeOfCall_26 q1634 q1635 q1636 q324 q1637 np_X10 rfl OB_10 pd_X10_sort (Nat.le_of_ble_eq_true rfl) hd1 (okX10_sort l E A (d - 1)  (by omega)  e39 am) rfl ?_
    refine hr_iconst (v := 2) hC dX8_typeOfCall_29 rfl ?_
    refine hr_icmp_eq (x := _) hC 84 dX8_typeOfCall_30 (by decide) (fun c43 => ?_) (fun c43 => ?_)
    · rw [if_pos c43] at h
      refine hr_aload_n hC dX8_typeOfCall_84 rfl ?_
      refine hr_gO 10 hC F8_4 rfl dX8_typeOfCall_85 q665 ?_
      refine hr_iload_n hC dX8_typeOfCall_88 rfl ?_
      obtain ⟨r44, e45, h⟩ := hx_bind h
      refine hs_callV0 hC 10 [_] _ dX8_typeOfCall_89 q1642 q1643 q1644 q324 q1645 np_X10 rfl OB_10 pd_X10_value (Nat.le_of_ble_eq_true rfl) hd1 (okX10_value l E A (d - 1)  (by omega)  e45 am) rfl ?_
      refine hr_istore_n hC dX8_typeOfCall_92 (by decide) ?_
      refine hr_aload_n hC dX8_typeOfCall_93 rfl ?_
      refine hr_gO 6 hC F8_0 rfl dX8_typeOfCall_94 q661 ?_
      refine hr_iload_n hC dX8_typeOfCall_97 rfl ?_
      refine hr_iload_n hC dX8_typeOfCall_98 rfl ?_
      obtain ⟨r48, e49, h⟩ := hx_bind h
      refine hs_callV0 hC 6 [_, _] _ dX8_typeOfCall_99 q1601 q1463 q1464 q320 q1465 np_X6 rfl OB_6 pd_X6_setExtra (Nat.le_of_ble_eq_true rfl) hd1 (okX6_setExtra l E A (d - 1)  (by omega)  e49 am) rfl ?_
      refine hr_iload_n hC dX8_typeOfCall_102 rfl ?_
      refine hr_bipush (v := 15) hC dX8_typeOfCall_103 rfl ?_
      obtain ⟨r54, e55, h⟩ := hx_bind h
      have J56 : hc_At hc_V0 E 5 X 138 [] [.int r54.2] r54.1 am [] := by
        obtain rfl := Option.some.inj h
        exact hr_iret hC dX8_typeOfCall_138
      clear h
      have h := e55
      refine hr_icmp_ge (x := _) hC 124 dX8_typeOfCall_105 (by decide) (fun c53 => ?_) (fun c53 => ?_)
      · rw [if_pos c53] at h
        refine hr_aload_n hC dX8_typeOfCall_124 rfl ?_
        refine hr_iload_n hC dX8_typeOfCall_125 rfl ?_
        refine hr_aload_n hC dX8_typeOfCall_126 rfl ?_
        refine hr_gA hC F8_7 rfl dX8_typeOfCall_127 q668 ?_
        refine hr_iload_n hC dX8_typeOfCall_130 rfl ?_
        refine hr_bipush (v := 15) hC dX8_typeOfCall_131 rfl ?_
        refine hr_isub hC dX8_typeOfCall_133 ?_
        obtain ⟨c58, h⟩ := hk_ok h
        refine hs_iald hC A8_7 c58 dX8_typeOfCall_134 ?_
        obtain ⟨r59, e60, h⟩ := hx_bind h
        refine hs_callV0 hC 8 [_, _] _ dX8_typeOfCall_135 q1682 q1684 qs67 q322 q1685 np_X8 rfl OB_8 pd_X8_typeOfOwn (Nat.le_of_ble_eq_true rfl) hd1 (IH _ _ _ _ e60 am) rfl ?_
        obtain rfl := Option.some.inj h
        exact hr_sub _ rfl (J56)
      · rw [if_neg c53] at h
        refine hr_aload_n hC dX8_typeOfCall_108 rfl ?_
        refine hr_iload_n hC dX8_typeOfCall_109 rfl ?_
        refine hr_aload_n hC dX8_typeOfCall_110 rfl ?_
        refine hr_gO 1 hC F8_2 rfl dX8_typeOfCall_111 q663 ?_
        refine hr_iload_n hC dX8_typeOfCall_114 rfl ?_
        obtain ⟨r63, e64, h⟩ := hx_bind h
        refine hs_callV0 hC 1 [_] _ dX8_typeOfCall_115 q1666 q1667 q1668 q316 q1669 np_X2 rfl OB_1 pd_X2_takes (Nat.le_of_ble_eq_true rfl) hd1 (okX2_takes l E A (d - 1)  (by omega)  e64 am) rfl ?_
        obtain ⟨r67, e68, h⟩ := hx_bind h
        refine hs_callV0 hC 8 [_, _] _ dX8_typeOfCall_118 q1670 q1672 qs65 q322 q1673 np_X8 rfl OB_8 pd_X8_typeOfGiven (Nat.le_of_ble_eq_true rfl) hd1 (IH _ _ _ _ e68 am) rfl ?_
        refine hr_goto hC 138 dX8_typeOfCall_121 (by decide) ?_
        obtain rfl := Option.some.inj h
        exact hr_sub _ rfl (J56)
    · rw [if_neg c43] at h
      refine hr_aload_n hC dX8_typeOfCall_33 rfl ?_
      refine hr_gO 9 hC F8_3 rfl dX8_typeOfCall_34 q664 ?_
      refine hr_iconst (v := 2) hC dX8_typeOfCall_37 rfl ?_
      refine hr_aload_n hC dX8_typeOfCall_38 rfl ?_
      refine hr_gO 6 hC F8_0 rfl dX8_typeOfCall_39 q661 ?_
      refine hr_iload_n hC dX8_typeOfCall_42 rfl ?_
      obtain ⟨r71, e72, h⟩ := hx_bind h
      refine hs_callV0 hC 6 [_] _ dX8_typeOfCall_43 q1638 q1639 q1640 q320 q1641 np_X6 rfl OB_6 pd_X6_op (Nat.le_of_ble_eq_true rfl) hd1 (okX6_op l E A (d - 1)  (by omega)  e72 am) rfl ?_
      obtain ⟨r75, e76, h⟩ := hx_bind h
      refine hs_callV0 hC 9 [_, _] _ dX8_typeOfCall_46 q1597 q1598 q1599 q323 q1600 np_X9 rfl OB_9 pd_X9_say (Nat.le_of_ble_eq_true rfl) hd1 (okX9_say l E A (d - 1)  (by omega)  e76 am) rfl ?_
      refine hr_aload_n hC dX8_typeOfCall_49 rfl ?_
      refine hr_gO 6 hC F8_0 rfl dX8_typeOfCall_50 q661 ?_
      refine hr_iload_n hC dX8_typeOfCall_53 rfl ?_
      obtain ⟨r79, e80, h⟩ := hx_bind h
      refine hs_callV0 hC 6 [_] _ dX8_typeOfCall_54 q1575 q1576 q1577 q320 q1578 np_X6 rfl OB_6 pd_X6_first (Nat.le_of_ble_eq_true rfl) hd1 (okX6_first l E A (d - 1)  (by omega)  e80 am) rfl ?_
      refine hr_istore_n hC dX8_typeOfCall_57 (by decide) ?_
      obtain ⟨r83, e84, h⟩ := hx_bind h
      refine hr_sub _ rfl (ll_X8_typeOfCall_58 n k0 rec hD hem IH hC n _ _ _ am e84 ?_)
      refine hr_iconst (v := 4) hC dX8_typeOfCall_82 rfl ?_
      obtain rfl := Option.some.inj h
      exact hr_iret hC dX8_typeOfCall_83
def lp_X8_typeOfGiven_45 (n : Nat) (k0 : Nat) (rec : Nat → List Int32 → hc_St → Option (Int32 × hc_St)) : Nat → Int32 → Int32 → Int32 → hc_St → Option (hc_St)
  | 0, _, _, _, _ => none
  | m + 1, y2, y3, y4, σ => if y4 = (-1) then (some (σ)) else (hk (hsi y2) <| Option.bind (α := Int32) (if (sLen y2) ≤ y3 then (some (63)) else (hk (hsc y2 y3) <| some ((sCh y2 y3)))) fun r29 => Option.bind (rec 5 [y4, r29] σ) fun r34 => Option.bind (fm_X6_next y4 r34.2) fun r38 => lp_X8_typeOfGiven_45 n k0 rec m y2 ((y3 + 1)) r38 r34.2)
/-- HomeCompiler$Checker.typeOfGiven(ILjava/lang/String;)I -/
def bd_X8_typeOfGiven (n : Nat) (k0 : Nat) (rec : Nat → List Int32 → hc_St → Option (Int32 × hc_St)) (x1 : Int32) (x2 : Int32) (σ : hc_St) : Option (Int32 × hc_St) := Option.bind (fm_X6_children n x1 σ) fun r1 => hk (hsi x2) <| Option.bind (α := hc_St) (if r1 = (((sLen x2)) - 1) then (some (σ)) else (Option.bind (fm_X6_op x1 σ) fun r12 => Option.bind (fm_X9_say 4 r12 σ) fun r16 => some (r16))) fun r8 => Option.bind (fm_X6_first x1 r8) fun r20 => Option.bind (lp_X8_typeOfGiven_45 n k0 rec n x2 1 r20 r8) fun r42 => hk (hsc x2 0) <| hl (α := Int32) ((if (sCh x2 0) = 118 then 3 else 0)) fun v50 => some (v50, r42)
set_option maxRecDepth 20000 in
set_option maxHeartbeats 4000000 in
theorem ll_X8_typeOfGiven_45 {l : Launch} {E : hc_E} {A : Nat → Prop} {am : Nat → Nat → Nat} {d : Nat} {kk : Nat} {X : hc_X} (n : Nat) (k0 : Nat) (rec : Nat → List Int32 → hc_St → Option (Int32 × hc_St)) (hD : kk + 1 * k0 + 9 ≤ d) (hem : X.2.2.2.2.2.2.2.2.2.1.exceptionTable.isEmpty = true) (IH : ∀ (w : Nat) (a : List Int32) (σ : hc_St) (r : (Int32 × hc_St)), rec w a σ = some r → ∀ am, okg_X8_isTold l E A (d - 1) am w a σ r) {oc : hc_Oc} {σe : hc_St} (hC : hc_C hc_V0 E cX8_typeOfGiven 5 RX8 (some .int) d oc σe (l, A, am, []) X) : ∀ (m : Nat) (σ : hc_St) (y2 : Int32) (y3 : Int32) (y4 : Int32) (rl : hc_St) (am1 : Nat → Nat → Nat), lp_X8_typeOfGiven_45 n k0 rec m y2 y3 y4 σ = some rl → (hc_At hc_V0 E 5 X 92 [(2, .ref (E.2.2.2.1 (y2 : Int32).toNatClampNeg))] [] rl am1 []) → hc_At hc_V0 E 5 X 45 [(0, .ref (E.2.1 8)), (2, .ref (E.2.2.2.1 (y2 : Int32).toNatClampNeg)), (3, .int y3), (4, .int y4)] [] σ am1 [] := by
  have hd1 : 1 ≤ d := by omega
  have hd8 : 9 ≤ d := by omega
  intro m
  induction m with
  | zero =>
    intro σ y2 y3 y4 rl am1 h
    cases h
  | succ m ih =>
    intro σ y2 y3 y4 rl am1 h JX
    rw [lp_X8_typeOfGiven_45] at h
    refine hr_iload hC dX8_typeOfGiven_45 rfl ?_
    refine hr_iconst (v := (-1)) hC dX8_typeOfGiven_47 rfl ?_
    refine hr_icmp_eq (x := _) hC 92 dX8_typeOfGiven_48 (by decide) (fun c25 => ?_) (fun c25 => ?_)
    · rw [if_pos c25] at h
      obtain rfl := Option.some.inj h
      exact hr_sub _ rfl (JX)
    · rw [if_neg c25] at h
      refine hr_aload_n hC dX8_typeOfGiven_51 rfl ?_
      refine hr_iload hC dX8_typeOfGiven_52 rfl ?_
      refine hr_iload_n hC dX8_typeOfGiven_54 rfl ?_
      refine hr_aload_n hC dX8_typeOfGiven_55 rfl ?_
      obtain ⟨c26, h⟩ := hk_ok h
      refine hr_slen hC c26 dX8_typeOfGiven_56 q1562 hd8 (Nat.le_of_ble_eq_true rfl) ?_
      obtain ⟨r29, e30, h⟩ := hx_bind h
      have J31 : hc_At hc_V0 E 5 X 72 [(0, .ref (E.2.1 8)), (2, .ref (E.2.2.2.1 (y2 : Int32).toNatClampNeg)), (3, .int y3), (4, .int y4)] [.int r29, .int y4, .ref (E.2.1 8)] σ am1 [] := by
        obtain ⟨r34, e35, h⟩ := hx_bind h
        refine hs_callV0 hC 8 [_, _] _ dX8_typeOfGiven_72 q1678 q1680 qs66 q322 q1681 np_X8 rfl OB_8 pd_X8_argument (Nat.le_of_ble_eq_true rfl) hd1 (IH _ _ _ _ e35 am1) rfl ?_
        refine hr_iinc (v := y3 + 1) hC dX8_typeOfGiven_75 rfl rfl (by decide) ?_
        refine hr_aload_n hC dX8_typeOfGiven_78 rfl ?_
        refine hr_gO 6 hC F8_0 rfl dX8_typeOfGiven_79 q661 ?_
        refine hr_iload hC dX8_typeOfGiven_82 rfl ?_
        obtain ⟨r38, e39, h⟩ := hx_bind h
        refine hs_callV0 hC 6 [_] _ dX8_typeOfGiven_84 q1602 q1603 q1604 q320 q1605 np_X6 rfl OB_6 pd_X6_next (Nat.le_of_ble_eq_true rfl) hd1 (okX6_next l E A (d - 1)  (by omega)  e39 am1) rfl ?_
        refine hr_istore hC dX8_typeOfGiven_87 (by decide) ?_
        refine hr_goto hC 45 dX8_typeOfGiven_89 (by decide) ?_
        exact hr_sub _ rfl (ih _ _ _ _ _ am1 h JX)
      clear h
      have h := e30
      refine hr_icmp_ge (x := _) hC 70 dX8_typeOfGiven_59 (by decide) (fun c28 => ?_) (fun c28 => ?_)
      · rw [if_pos c28] at h
        refine hr_bipush (v := 63) hC dX8_typeOfGiven_70 rfl ?_
        obtain rfl := Option.some.inj h
        exact hr_sub _ rfl (J31)
      · rw [if_neg c28] at h
        refine hr_aload_n hC dX8_typeOfGiven_62 rfl ?_
        refine hr_iload_n hC dX8_typeOfGiven_63 rfl ?_
        obtain ⟨c33, h⟩ := hk_ok h
        refine hr_schar hC c33 dX8_typeOfGiven_64 q1563 hd8 (Nat.le_of_ble_eq_true rfl) ?_
        refine hr_goto hC 72 dX8_typeOfGiven_67 (by decide) ?_
        obtain rfl := Option.some.inj h
        exact hr_sub _ rfl (J31)
set_option maxRecDepth 20000 in
set_option maxHeartbeats 4000000 in
theorem okbX8_typeOfGiven (l : Launch) (E : hc_E) (A : Nat → Prop) (d : Nat) {kk : Nat} (n : Nat) (k0 : Nat) (rec : Nat → List Int32 → hc_St → Option (Int32 × hc_St)) (hD : kk + 1 * k0 + 9 ≤ d) (IH : ∀ (w : Nat) (a : List Int32) (σ : hc_St) (r : (Int32 × hc_St)), rec w a σ = some r → ∀ am, okg_X8_isTold l E A (d - 1) am w a σ r) {x1 : Int32} {x2 : Int32} {σ : hc_St} {r : (Int32 × hc_St)} (h : bd_X8_typeOfGiven n k0 rec x1 x2 σ = some r) (am : Nat → Nat → Nat) : hc_M l hc_V0 yX8_typeOfGiven (ws_ yX8_typeOfGiven cX8_typeOfGiven 5 (some .int)) d E A [.ref (E.2.1 8), .int x1, .ref (E.2.2.2.1 (x2 : Int32).toNatClampNeg)] am [] σ (.inl (some (.int r.1))) r.2 := by
  have hd1 : 1 ≤ d := by omega
  have hd8 : 9 ≤ d := by omega
  refine hc_enter2 (own := RX8) [(0, .ref (E.2.1 8)), (1, .int x1), (2, .ref (E.2.2.2.1 (x2 : Int32).toNatClampNeg))] pl_X8 rfl hc_V0_st hc_G0_nd rfl (Nat.le_of_ble_eq_true rfl) (fun X hC hem => ?_)
  unfold bd_X8_typeOfGiven at h
  refine hr_aload_n hC dX8_typeOfGiven_0 rfl ?_
  refine hr_gO 6 hC F8_0 rfl dX8_typeOfGiven_1 q661 ?_
  refine hr_iload_n hC dX8_typeOfGiven_4 rfl ?_
  obtain ⟨r1, e2, h⟩ := hx_bind h
  refine hs_callV0 hC 6 [_] _ dX8_typeOfGiven_5 q1674 q1675 q1676 q320 q1677 np_X6 rfl OB_6 pd_X6_children (Nat.le_of_ble_eq_true rfl) hd1 (okX6_children l E A (d - 1) n (by omega)  e2 am) rfl ?_
  refine hr_aload_n hC dX8_typeOfGiven_8 rfl ?_
  obtain ⟨c5, h⟩ := hk_ok h
  refine hr_slen hC c5 dX8_typeOfGiven_9 q1562 hd8 (Nat.le_of_ble_eq_true rfl) ?_
  refine hr_iconst (v := 1) hC dX8_typeOfGiven_12 rfl ?_
  refine hr_isub hC dX8_typeOfGiven_13 ?_
  obtain ⟨r8, e9, h⟩ := hx_bind h
  have J10 : hc_At hc_V0 E 5 X 33 [(0, .ref (E.2.1 8)), (1, .int x1), (2, .ref (E.2.2.2.1 (x2 : Int32).toNatClampNeg))] [] r8 am [] := by
    refine hr_iconst (v := 1) hC dX8_typeOfGiven_33 rfl ?_
    refine hr_istore_n hC dX8_typeOfGiven_34 (by decide) ?_
    refine hr_aload_n hC dX8_typeOfGiven_35 rfl ?_
    refine hr_gO 6 hC F8_0 rfl dX8_typeOfGiven_36 q661 ?_
    refine hr_iload_n hC dX8_typeOfGiven_39 rfl ?_
    obtain ⟨r20, e21, h⟩ := hx_bind h
    refine hs_callV0 hC 6 [_] _ dX8_typeOfGiven_40 q1575 q1576 q1577 q320 q1578 np_X6 rfl OB_6 pd_X6_first (Nat.le_of_ble_eq_true rfl) hd1 (okX6_first l E A (d - 1)  (by omega)  e21 am) rfl ?_
    refine hr_istore hC dX8_typeOfGiven_43 (by decide) ?_
    obtain ⟨r42, e43, h⟩ := hx_bind h
    refine hr_sub _ rfl (ll_X8_typeOfGiven_45 n k0 rec hD hem IH hC n _ _ _ _ _ am e43 ?_)
    refine hr_aload_n hC dX8_typeOfGiven_92 rfl ?_
    refine hr_iconst (v := 0) hC dX8_typeOfGiven_93 rfl ?_
    obtain ⟨c47, h⟩ := hk_ok h
    refine hr_schar hC c47 dX8_typeOfGiven_94 q1563 hd8 (Nat.le_of_ble_eq_true rfl) ?_
    refine hr_bipush (v := 118) hC dX8_typeOfGiven_97 rfl ?_
    obtain ⟨v50, hv50, h⟩ := hl_ok h
    have J51 : ∀ w52 : Int32, (if (sCh x2 0) = 118 then 3 else 0) = w52 → hc_At hc_V0 E 5 X 107 [] [.int w52] r42 am [] := by
      intro w52 hw52
      obtain rfl := hv50.trans hw52
      obtain rfl := Option.some.inj h
      exact hr_iret hC dX8_typeOfGiven_107
    refine hr_icmp_ne (x := _) hC 106 dX8_typeOfGiven_99 (by decide) (fun c53 => ?_) (fun c53 => ?_)
    · refine hr_iconst (v := 0) hC dX8_typeOfGiven_106 rfl ?_
      exact hr_sub _ rfl (J51 _ (by first | (rw [if_neg c53]; done) | (simp only [if_neg c53]; done) | rfl))
    · refine hr_iconst (v := 3) hC dX8_typeOfGiven_102 rfl ?_
      refine hr_goto hC 107 dX8_typeOfGiven_103 (by decide) ?_
      exact hr_sub _ rfl (J51 _ (by first | (rw [if_pos c53]; done) | (simp only [if_pos c53]; done) | rfl))
  clear h
  have h := e9
  refine hr_icmp_eq (x := _) hC 33 dX8_typeOfGiven_14 (by decide) (fun c7 => ?_) (fun c7 => ?_)
  · rw [if_pos c7] at h
    obtain rfl := Option.some.inj h
    exact hr_sub _ rfl (J10)
  · rw [if_neg c7] at h
    refine hr_aload_n hC dX8_typeOfGiven_17 rfl ?_
    refine hr_gO 9 hC F8_3 rfl dX8_typeOfGiven_18 q664 ?_
    refine hr_iconst (v := 4) hC dX8_typeOfGiven_21 rfl ?_
    refine hr_aload_n hC dX8_typeOfGiven_22 rfl ?_
    refine hr_gO 6 hC F8_0 rfl dX8_typeOfGiven_23 q661 ?_
    refine hr_iload_n hC dX8_typeOfGiven_26 rfl ?_
    obtain ⟨r12, e13, h⟩ := hx_bind h
    refine hs_callV0 hC 6 [_] _ dX8_typeOfGiven_27 q1638 q1639 q1640 q320 q1641 np_X6 rfl OB_6 pd_X6_op (Nat.le_of_ble_eq_true rfl) hd1 (okX6_op l E A (d - 1)  (by omega)  e13 am) rfl ?_
    obtain ⟨r16, e17, h⟩ := hx_bind h
    refine hs_callV0 hC 9 [_, _] _ dX8_typeOfGiven_30 q1597 q1598 q1599 q323 q1600 np_X9 rfl OB_9 pd_X9_say (Nat.le_of_ble_eq_true rfl) hd1 (okX9_say l E A (d - 1)  (by omega)  e17 am) rfl ?_
    obtain rfl := Option.some.inj h
    exact hr_sub _ rfl (J10)
/-- HomeCompiler$Checker.argument(II)V -/
def bd_X8_argument (n : Nat) (k0 : Nat) (rec : Nat → List Int32 → hc_St → Option (Int32 × hc_St)) (x1 : Int32) (x2 : Int32) (σ : hc_St) : Option (Int32 × hc_St) := Option.bind (α := hc_St) (if x2 = 105 then (Option.bind (rec 1 [x1] σ) fun r52 => some (r52.2)) else (if x2 = 107 then (Option.bind (rec 0 [x1] σ) fun r38 => hl (α := Int32) ((if r38.1 = 0 then 0 else (gI r38.2 8 15))) fun v44 => Option.bind (fm_X6_setNumber x1 v44 r38.2) fun r45 => some (r45)) else (Option.bind (rec 2 [x1] σ) fun r9 => hl (α := Int32) ((if r9.1 = 1 then (if x2 = 99 then (if r9.1 = 2 then (if x2 = 97 then 0 else 1) else 0) else 1) else (if r9.1 = 2 then (if x2 = 97 then 0 else 1) else 0))) fun v15 => if x2 = 63 then (some (r9.2)) else (if r9.1 = 4 then (some (r9.2)) else (if v15 = 0 then (Option.bind (fm_X6_place x1 r9.2) fun r22 => Option.bind (fm_X9_say 3 r22 r9.2) fun r26 => some (r26)) else (some (r9.2))))))) fun r3 => some (0, r3)
set_option maxRecDepth 20000 in
set_option maxHeartbeats 4000000 in
theorem okbX8_argument (l : Launch) (E : hc_E) (A : Nat → Prop) (d : Nat) {kk : Nat} (n : Nat) (k0 : Nat) (rec : Nat → List Int32 → hc_St → Option (Int32 × hc_St)) (hD : kk + 1 * k0 + 9 ≤ d) (IH : ∀ (w : Nat) (a : List Int32) (σ : hc_St) (r : (Int32 × hc_St)), rec w a σ = some r → ∀ am, okg_X8_isTold l E A (d - 1) am w a σ r) {x1 : Int32} {x2 : Int32} {σ : hc_St} {r : (Int32 × hc_St)} (h : bd_X8_argument n k0 rec x1 x2 σ = some r) (am : Nat → Nat → Nat) : hc_M l hc_V0 yX8_argument (ws_ yX8_argument cX8_argument 5 none) d E A [.ref (E.2.1 8), .int x1, .int x2] am [] σ (.inl (none)) r.2 := by
  have hd1 : 1 ≤ d := by omega
  have hd8 : 9 ≤ d := by omega
  refine hc_enter2 (own := RX8) [(0, .ref (E.2.1 8)), (1, .int x1), (2, .int x2)] pl_X8 rfl hc_V0_st hc_G0_nd rfl (Nat.le_of_ble_eq_true rfl) (fun X hC hem => ?_)
  unfold bd_X8_argument at h
  refine hr_iload_n hC dX8_argument_0 rfl ?_
  refine hr_bipush (v := 105) hC dX8_argument_1 rfl ?_
  obtain ⟨r3, e4, h⟩ := hx_bind h
  have J5 : hc_At hc_V0 E 5 X 114 [] [] r3 am [] := by
    obtain rfl := Option.some.inj h
    exact hr_vret hC dX8_argument_114
  clear h
  have h := e4
  refine hr_icmp_ne (x := _) hC 14 dX8_argument_3 (by decide) (fun c2 => ?_) (fun c2 => ?_)
  · rw [if_neg c2] at h
    refine hr_iload_n hC dX8_argument_14 rfl ?_
    refine hr_bipush (v := 107) hC dX8_argument_15 rfl ?_
    refine hr_icmp_ne (x := _) hC 47 dX8_argument_17 (by decide) (fun c8 => ?_) (fun c8 => ?_)
    · rw [if_neg c8] at h
      refine hr_aload_n hC dX8_argument_47 rfl ?_
      refine hr_iload_n hC dX8_argument_48 rfl ?_
      obtain ⟨r9, e10, h⟩ := hx_bind h
      refine hs_callV0 hC 8 [_] _ dX8_argument_49 q1622 q1624 qs61 q322 q1625 np_X8 rfl OB_8 pd_X8_typeOf (Nat.le_of_ble_eq_true rfl) hd1 (IH _ _ _ _ e10 am) rfl ?_
      refine hr_istore_n hC dX8_argument_52 (by decide) ?_
      refine hr_iload_n hC dX8_argument_53 rfl ?_
      refine hr_iconst (v := 1) hC dX8_argument_54 rfl ?_
      obtain ⟨v15, hv15, h⟩ := hl_ok h
      have J30 : ∀ w31 : Int32, (if r9.1 = 1 then (if x2 = 99 then (if r9.1 = 2 then (if x2 = 97 then 0 else 1) else 0) else 1) else (if r9.1 = 2 then (if x2 = 97 then 0 else 1) else 0)) = w31 → hc_At hc_V0 E 5 X 80 [(0, .ref (E.2.1 8)), (1, .int x1), (2, .int x2), (3, .int r9.1)] [.int w31] r9.2 am [] := by
        intro w31 hw31
        obtain rfl := hv15.trans hw31
        refine hr_istore hC dX8_argument_80 (by decide) ?_
        refine hr_iload_n hC dX8_argument_82 rfl ?_
        refine hr_bipush (v := 63) hC dX8_argument_83 rfl ?_
        refine hr_icmp_eq (x := _) hC 114 dX8_argument_85 (by decide) (fun c17 => ?_) (fun c17 => ?_)
        · rw [if_pos c17] at h
          obtain rfl := Option.some.inj h
          exact hr_sub _ rfl (J5)
        · rw [if_neg c17] at h
          refine hr_iload_n hC dX8_argument_88 rfl ?_
          refine hr_iconst (v := 4) hC dX8_argument_89 rfl ?_
          refine hr_icmp_eq (x := _) hC 114 dX8_argument_90 (by decide) (fun c19 => ?_) (fun c19 => ?_)
          · rw [if_pos c19] at h
            obtain rfl := Option.some.inj h
            exact hr_sub _ rfl (J5)
          · rw [if_neg c19] at h
            refine hr_iload hC dX8_argument_93 rfl ?_
            refine hr_if_ne (x := _) hC 114 dX8_argument_95 (by decide) (fun c21 => ?_) (fun c21 => ?_)
            · rw [if_neg c21] at h
              obtain rfl := Option.some.inj h
              exact hr_sub _ rfl (J5)
            · rw [if_pos c21] at h
              refine hr_aload_n hC dX8_argument_98 rfl ?_
              refine hr_gO 9 hC F8_3 rfl dX8_argument_99 q664 ?_
              refine hr_iconst (v := 3) hC dX8_argument_102 rfl ?_
              refine hr_aload_n hC dX8_argument_103 rfl ?_
              refine hr_gO 6 hC F8_0 rfl dX8_argument_104 q661 ?_
              refine hr_iload_n hC dX8_argument_107 rfl ?_
              obtain ⟨r22, e23, h⟩ := hx_bind h
              refine hs_callV0 hC 6 [_] _ dX8_argument_108 q1593 q1594 q1595 q320 q1596 np_X6 rfl OB_6 pd_X6_place (Nat.le_of_ble_eq_true rfl) hd1 (okX6_place l E A (d - 1)  (by omega)  e23 am) rfl ?_
              obtain ⟨r26, e27, h⟩ := hx_bind h
              refine hs_callV0 hC 9 [_, _] _ dX8_argument_111 q1597 q1598 q1599 q323 q1600 np_X9 rfl OB_9 pd_X9_say (Nat.le_of_ble_eq_true rfl) hd1 (okX9_say l E A (d - 1)  (by omega)  e27 am) rfl ?_
              obtain rfl := Option.some.inj h
              exact hr_sub _ rfl (J5)
      refine hr_icmp_ne (x := _) hC 64 dX8_argument_55 (by decide) (fun c32 => ?_) (fun c32 => ?_)
      · refine hr_iload_n hC dX8_argument_64 rfl ?_
        refine hr_iconst (v := 2) hC dX8_argument_65 rfl ?_
        refine hr_icmp_ne (x := _) hC 79 dX8_argument_66 (by decide) (fun c33 => ?_) (fun c33 => ?_)
        · refine hr_iconst (v := 0) hC dX8_argument_79 rfl ?_
          exact hr_sub _ rfl (J30 _ (by first | (rw [if_neg c32, if_neg c33]; done) | (simp only [if_neg c32, if_neg c33]; done) | rfl))
        · refine hr_iload_n hC dX8_argument_69 rfl ?_
          refine hr_bipush (v := 97) hC dX8_argument_70 rfl ?_
          refine hr_icmp_eq (x := _) hC 79 dX8_argument_72 (by decide) (fun c34 => ?_) (fun c34 => ?_)
          · refine hr_iconst (v := 0) hC dX8_argument_79 rfl ?_
            exact hr_sub _ rfl (J30 _ (by first | (rw [if_neg c32, if_pos c33, if_pos c34]; done) | (simp only [if_neg c32, if_pos c33, if_pos c34]; done) | rfl))
          · refine hr_iconst (v := 1) hC dX8_argument_75 rfl ?_
            refine hr_goto hC 80 dX8_argument_76 (by decide) ?_
            exact hr_sub _ rfl (J30 _ (by first | (rw [if_neg c32, if_pos c33, if_neg c34]; done) | (simp only [if_neg c32, if_pos c33, if_neg c34]; done) | rfl))
      · refine hr_iload_n hC dX8_argument_58 rfl ?_
        refine hr_bipush (v := 99) hC dX8_argument_59 rfl ?_
        refine hr_icmp_ne (x := _) hC 75 dX8_argument_61 (by decide) (fun c35 => ?_) (fun c35 => ?_)
        · refine hr_iconst (v := 1) hC dX8_argument_75 rfl ?_
          refine hr_goto hC 80 dX8_argument_76 (by decide) ?_
          exact hr_sub _ rfl (J30 _ (by first | (rw [if_pos c32, if_neg c35]; done) | (simp only [if_pos c32, if_neg c35]; done) | rfl))
        · refine hr_iload_n hC dX8_argument_64 rfl ?_
          refine hr_iconst (v := 2) hC dX8_argument_65 rfl ?_
          refine hr_icmp_ne (x := _) hC 79 dX8_argument_66 (by decide) (fun c36 => ?_) (fun c36 => ?_)
          · refine hr_iconst (v := 0) hC dX8_argument_79 rfl ?_
            exact hr_sub _ rfl (J30 _ (by first | (rw [if_pos c32, if_pos c35, if_neg c36]; done) | (simp only [if_pos c32, if_pos c35, if_neg c36]; done) | rfl))
          · refine hr_iload_n hC dX8_argument_69 rfl ?_
            refine hr_bipush (v := 97) hC dX8_argument_70 rfl ?_
            refine hr_icmp_eq (x := _) hC 79 dX8_argument_72 (by decide) (fun c37 => ?_) (fun c37 => ?_)
            · refine hr_iconst (v := 0) hC dX8_argument_79 rfl ?_
              exact hr_sub _ rfl (J30 _ (by first | (rw [if_pos c32, if_pos c35, if_pos c36, if_pos c37]; done) | (simp only [if_pos c32, if_pos c35, if_pos c36, if_pos c37]; done) | rfl))
            · refine hr_iconst (v := 1) hC dX8_argument_75 rfl ?_
              refine hr_goto hC 80 dX8_argument_76 (by decide) ?_
              exact hr_sub _ rfl (J30 _ (by first | (rw [if_pos c32, if_pos c35, if_pos c36, if_neg c37]; done) | (simp only [if_pos c32, if_pos c35, if_pos c36, if_neg c37]; done) | rfl))
    · rw [if_pos c8] at h
      refine hr_aload_n hC dX8_argument_20 rfl ?_
      refine hr_gO 6 hC F8_0 rfl dX8_argument_21 q661 ?_
      refine hr_iload_n hC dX8_argument_24 rfl ?_
      refine hr_aload_n hC dX8_argument_25 rfl ?_
      refine hr_iload_n hC dX8_argument_26 rfl ?_
      obtain ⟨r38, e39, h⟩ := hx_bind h
      refine hs_callV0 hC 8 [_] _ dX8_argument_27 q1614 q1616 qs59 q322 q1617 np_X8 rfl OB_8 pd_X8_isTold (Nat.le_of_ble_eq_true rfl) hd1 (IH _ _ _ _ e39 am) rfl ?_
      obtain ⟨v44, hv44, h⟩ := hl_ok h
      have J49 : ∀ w50 : Int32, (if r38.1 = 0 then 0 else (gI r38.2 8 15)) = w50 → hc_At hc_V0 E 5 X 41 [] [.int w50, .int x1, .ref (E.2.1 6)] r38.2 am [] := by
        intro w50 hw50
        obtain rfl := hv44.trans hw50
        obtain ⟨r45, e46, h⟩ := hx_bind h
        refine hs_callV0 hC 6 [_, _] _ dX8_argument_41 q1646 q1647 q1648 q320 q1649 np_X6 rfl OB_6 pd_X6_setNumber (Nat.le_of_ble_eq_true rfl) hd1 (okX6_setNumber l E A (d - 1)  (by omega)  e46 am) rfl ?_
        refine hr_goto hC 114 dX8_argument_44 (by decide) ?_
        obtain rfl := Option.some.inj h
        exact hr_sub _ rfl (J5)
      refine hr_if_eq (x := _) hC 40 dX8_argument_30 (by decide) (fun c51 => ?_) (fun c51 => ?_)
      · refine hr_iconst (v := 0) hC dX8_argument_40 rfl ?_
        exact hr_sub _ rfl (J49 _ (by first | (rw [if_pos c51]; done) | (simp only [if_pos c51]; done) | rfl))
      · refine hr_aload_n hC dX8_argument_33 rfl ?_
        refine hr_gI hC F8_15 dX8_argument_34 q676 ?_
        refine hr_goto hC 41 dX8_argument_37 (by decide) ?_
        exact hr_sub _ rfl (J49 _ (by first | (rw [if_neg c51]; done) | (simp only [if_neg c51]; done) | rfl))
  · rw [if_pos c2] at h
    refine hr_aload_n hC dX8_argument_6 rfl ?_
    refine hr_iload_n hC dX8_argument_7 rfl ?_
    obtain ⟨r52, e53, h⟩ := hx_bind h
    refine hs_callV0 hC 8 [_] _ dX8_argument_8 q1618 q1620 qs60 q322 q1621 np_X8 rfl OB_8 pd_X8_number (Nat.le_of_ble_eq_true rfl) hd1 (IH _ _ _ _ e53 am) rfl ?_
    refine hr_goto hC 114 dX8_argument_11 (by decide) ?_
    obtain rfl := Option.some.inj h
    exact hr_sub _ rfl (J5)
def lp_X8_typeOfOwn_22 (n : Nat) (k0 : Nat) (rec : Nat → List Int32 → hc_St → Option (Int32 × hc_St)) : Nat → Int32 → Int32 → Int32 → Int32 → Int32 → hc_St → Option (hc_St × Int32 × Int32)
  | 0, _, _, _, _, _, _ => none
  | m + 1, y1, y2, y3, y4, y5, σ => if y5 = (-1) then (some (σ, y3, y4)) else (Option.bind (fm_X6_kind y3 σ) fun r11 => hl (α := Int32) ((if r11 = 5 then 1 else 0)) fun v17 => hl (α := Int32) ((if v17 = 0 then 1 else 0)) fun v20 => Option.bind (α := Int32) (if v17 = 0 then (some (63)) else (Option.bind (fm_X6_extra y3 σ) fun r27 => if r27 = (-1) then (some (105)) else (Option.bind (fm_X6_op y3 σ) fun r33 => if r33 = 0 then (some (97)) else (some (99))))) fun r23 => Option.bind (rec 5 [y5, r23] σ) fun r39 => Option.bind (α := Int32) (if v17 = 0 then (some (y3)) else (Option.bind (fm_X6_next y3 r39.2) fun r49 => some (r49))) fun r45 => Option.bind (fm_X6_next y5 r39.2) fun r53 => lp_X8_typeOfOwn_22 n k0 rec m y1 y2 r45 ((y4 ||| v20)) r53 r39.2)
/-- HomeCompiler$Checker.typeOfOwn(II)I -/
def bd_X8_typeOfOwn (n : Nat) (k0 : Nat) (rec : Nat → List Int32 → hc_St → Option (Int32 × hc_St)) (x1 : Int32) (x2 : Int32) (σ : hc_St) : Option (Int32 × hc_St) := Option.bind (fm_X6_first x2 σ) fun r1 => Option.bind (fm_X6_first x1 σ) fun r5 => Option.bind (lp_X8_typeOfOwn_22 n k0 rec n x1 x2 r1 0 r5 σ) fun r63 => Option.bind (α := hc_St) (if r63.2.2 = 0 then (Option.bind (fm_X6_kind r63.2.1 r63.1) fun r82 => if r82 = 5 then (Option.bind (fm_X6_op x1 r63.1) fun r88 => Option.bind (fm_X9_say 4 r88 r63.1) fun r92 => some (r92)) else (some (r63.1))) else (Option.bind (fm_X6_op x1 r63.1) fun r74 => Option.bind (fm_X9_say 4 r74 r63.1) fun r78 => some (r78))) fun r70 => Option.bind (fm_X6_op x2 r70) fun r96 => hl (α := Int32) ((if r96 = 2 then 3 else 0)) fun v102 => some (v102, r70)
set_option maxRecDepth 20000 in
set_option maxHeartbeats 4000000 in
theorem ll_X8_typeOfOwn_22 {l : Launch} {E : hc_E} {A : Nat → Prop} {am : Nat → Nat → Nat} {d : Nat} {kk : Nat} {X : hc_X} (n : Nat) (k0 : Nat) (rec : Nat → List Int32 → hc_St → Option (Int32 × hc_St)) (hD : kk + 1 * k0 + 9 ≤ d) (hem : X.2.2.2.2.2.2.2.2.2.1.exceptionTable.isEmpty = true) (IH : ∀ (w : Nat) (a : List Int32) (σ : hc_St) (r : (Int32 × hc_St)), rec w a σ = some r → ∀ am, okg_X8_isTold l E A (d - 1) am w a σ r) {oc : hc_Oc} {σe : hc_St} (hC : hc_C hc_V0 E cX8_typeOfOwn 7 RX8 (some .int) d oc σe (l, A, am, []) X) : ∀ (m : Nat) (σ : hc_St) (y1 : Int32) (y2 : Int32) (y3 : Int32) (y4 : Int32) (y5 : Int32) (rl : hc_St × Int32 × Int32) (am1 : Nat → Nat → Nat), lp_X8_typeOfOwn_22 n k0 rec m y1 y2 y3 y4 y5 σ = some rl → (hc_At hc_V0 E 7 X 145 [(0, .ref (E.2.1 8)), (1, .int y1), (2, .int y2), (3, .int rl.2.1), (4, .int rl.2.2)] [] rl.1 am1 []) → hc_At hc_V0 E 7 X 22 [(0, .ref (E.2.1 8)), (1, .int y1), (2, .int y2), (3, .int y3), (4, .int y4), (5, .int y5)] [] σ am1 [] := by
  have hd1 : 1 ≤ d := by omega
  have hd8 : 9 ≤ d := by omega
  intro m
  induction m with
  | zero =>
    intro σ y1 y2 y3 y4 y5 rl am1 h
    cases h
  | succ m ih =>
    intro σ y1 y2 y3 y4 y5 rl am1 h JX
    rw [lp_X8_typeOfOwn_22] at h
    refine hr_iload hC dX8_typeOfOwn_22 rfl ?_
    refine hr_iconst (v := (-1)) hC dX8_typeOfOwn_24 rfl ?_
    refine hr_icmp_eq (x := _) hC 145 dX8_typeOfOwn_25 (by decide) (fun c10 => ?_) (fun c10 => ?_)
    · rw [if_pos c10] at h
      obtain rfl := Option.some.inj h
      exact hr_sub _ rfl (JX)
    · rw [if_neg c10] at h
      refine hr_aload_n hC dX8_typeOfOwn_28 rfl ?_
      refine hr_gO 6 hC F8_0 rfl dX8_typeOfOwn_29 q661 ?_
      refine hr_iload_n hC dX8_typeOfOwn_32 rfl ?_
      obtain ⟨r11, e12, h⟩ := hx_bind h
      refine hs_callV0 hC 6 [_] _ dX8_typeOfOwn_33 q1579 q1369 q1370 q320 q1371 np_X6 rfl OB_6 pd_X6_kind (Nat.le_of_ble_eq_true rfl) hd1 (okX6_kind l E A (d - 1)  (by omega)  e12 am1) rfl ?_
      refine hr_iconst (v := 5) hC dX8_typeOfOwn_36 rfl ?_
      obtain ⟨v17, hv17, h⟩ := hl_ok h
      have J60 : ∀ w61 : Int32, (if r11 = 5 then 1 else 0) = w61 → hc_At hc_V0 E 7 X 45 [(0, .ref (E.2.1 8)), (1, .int y1), (2, .int y2), (3, .int y3), (4, .int y4), (5, .int y5)] [.int w61] σ am1 [] := by
        intro w61 hw61
        obtain rfl := hv17.trans hw61
        refine hr_istore hC dX8_typeOfOwn_45 (by decide) ?_
        refine hr_iload hC dX8_typeOfOwn_47 rfl ?_
        refine hr_iload hC dX8_typeOfOwn_49 rfl ?_
        obtain ⟨v20, hv20, h⟩ := hl_ok h
        have J57 : ∀ w58 : Int32, (if v17 = 0 then 1 else 0) = w58 → hc_At hc_V0 E 7 X 59 [(0, .ref (E.2.1 8)), (1, .int y1), (2, .int y2), (3, .int y3), (5, .int y5), (6, .int v17)] [.int w58, .int y4] σ am1 [] := by
          intro w58 hw58
          obtain rfl := hv20.trans hw58
          refine hr_ior hC dX8_typeOfOwn_59 ?_
          refine hr_istore hC dX8_typeOfOwn_60 (by decide) ?_
          refine hr_aload_n hC dX8_typeOfOwn_62 rfl ?_
          refine hr_iload hC dX8_typeOfOwn_63 rfl ?_
          refine hr_iload hC dX8_typeOfOwn_65 rfl ?_
          obtain ⟨r23, e24, h⟩ := hx_bind h
          have J25 : hc_At hc_V0 E 7 X 110 [(0, .ref (E.2.1 8)), (1, .int y1), (2, .int y2), (3, .int y3), (4, .int (y4 ||| v20)), (5, .int y5), (6, .int v17)] [.int r23, .int y5, .ref (E.2.1 8)] σ am1 [] := by
            obtain ⟨r39, e40, h⟩ := hx_bind h
            refine hs_callV0 hC 8 [_, _] _ dX8_typeOfOwn_110 q1678 q1680 qs66 q322 q1681 np_X8 rfl OB_8 pd_X8_argument (Nat.le_of_ble_eq_true rfl) hd1 (IH _ _ _ _ e40 am1) rfl ?_
            refine hr_iload hC dX8_typeOfOwn_113 rfl ?_
            obtain ⟨r45, e46, h⟩ := hx_bind h
            have J47 : hc_At hc_V0 E 7 X 130 [(0, .ref (E.2.1 8)), (1, .int y1), (2, .int y2), (4, .int (y4 ||| v20)), (5, .int y5)] [.int r45] r39.2 am1 [] := by
              refine hr_istore_n hC dX8_typeOfOwn_130 (by decide) ?_
              refine hr_aload_n hC dX8_typeOfOwn_131 rfl ?_
              refine hr_gO 6 hC F8_0 rfl dX8_typeOfOwn_132 q661 ?_
              refine hr_iload hC dX8_typeOfOwn_135 rfl ?_
              obtain ⟨r53, e54, h⟩ := hx_bind h
              refine hs_callV0 hC 6 [_] _ dX8_typeOfOwn_137 q1602 q1603 q1604 q320 q1605 np_X6 rfl OB_6 pd_X6_next (Nat.le_of_ble_eq_true rfl) hd1 (okX6_next l E A (d - 1)  (by omega)  e54 am1) rfl ?_
              refine hr_istore hC dX8_typeOfOwn_140 (by decide) ?_
              refine hr_goto hC 22 dX8_typeOfOwn_142 (by decide) ?_
              exact hr_sub _ rfl (ih _ _ _ _ _ _ _ am1 h JX)
            clear h
            have h := e46
            refine hr_if_eq (x := _) hC 129 dX8_typeOfOwn_115 (by decide) (fun c44 => ?_) (fun c44 => ?_)
            · rw [if_pos c44] at h
              refine hr_iload_n hC dX8_typeOfOwn_129 rfl ?_
              obtain rfl := Option.some.inj h
              exact hr_sub _ rfl (J47)
            · rw [if_neg c44] at h
              refine hr_aload_n hC dX8_typeOfOwn_118 rfl ?_
              refine hr_gO 6 hC F8_0 rfl dX8_typeOfOwn_119 q661 ?_
              refine hr_iload_n hC dX8_typeOfOwn_122 rfl ?_
              obtain ⟨r49, e50, h⟩ := hx_bind h
              refine hs_callV0 hC 6 [_] _ dX8_typeOfOwn_123 q1602 q1603 q1604 q320 q1605 np_X6 rfl OB_6 pd_X6_next (Nat.le_of_ble_eq_true rfl) hd1 (okX6_next l E A (d - 1)  (by omega)  e50 am1) rfl ?_
              refine hr_goto hC 130 dX8_typeOfOwn_126 (by decide) ?_
              obtain rfl := Option.some.inj h
              exact hr_sub _ rfl (J47)
          clear h
          have h := e24
          refine hr_if_ne (x := _) hC 75 dX8_typeOfOwn_67 (by decide) (fun c22 => ?_) (fun c22 => ?_)
          · rw [if_neg c22] at h
            refine hr_aload_n hC dX8_typeOfOwn_75 rfl ?_
            refine hr_gO 6 hC F8_0 rfl dX8_typeOfOwn_76 q661 ?_
            refine hr_iload_n hC dX8_typeOfOwn_79 rfl ?_
            obtain ⟨r27, e28, h⟩ := hx_bind h
            refine hs_callV0 hC 6 [_] _ dX8_typeOfOwn_80 q1686 q1687 q1688 q320 q1689 np_X6 rfl OB_6 pd_X6_extra (Nat.le_of_ble_eq_true rfl) hd1 (okX6_extra l E A (d - 1)  (by omega)  e28 am1) rfl ?_
            refine hr_iconst (v := (-1)) hC dX8_typeOfOwn_83 rfl ?_
            refine hr_icmp_ne (x := _) hC 92 dX8_typeOfOwn_84 (by decide) (fun c32 => ?_) (fun c32 => ?_)
            · rw [if_neg c32] at h
              refine hr_aload_n hC dX8_typeOfOwn_92 rfl ?_
              refine hr_gO 6 hC F8_0 rfl dX8_typeOfOwn_93 q661 ?_
              refine hr_iload_n hC dX8_typeOfOwn_96 rfl ?_
              obtain ⟨r33, e34, h⟩ := hx_bind h
              refine hs_callV0 hC 6 [_] _ dX8_typeOfOwn_97 q1638 q1639 q1640 q320 q1641 np_X6 rfl OB_6 pd_X6_op (Nat.le_of_ble_eq_true rfl) hd1 (okX6_op l E A (d - 1)  (by omega)  e34 am1) rfl ?_
              refine hr_if_ne (x := _) hC 108 dX8_typeOfOwn_100 (by decide) (fun c38 => ?_) (fun c38 => ?_)
              · rw [if_neg c38] at h
                refine hr_bipush (v := 99) hC dX8_typeOfOwn_108 rfl ?_
                obtain rfl := Option.some.inj h
                exact hr_sub _ rfl (J25)
              · rw [if_pos c38] at h
                refine hr_bipush (v := 97) hC dX8_typeOfOwn_103 rfl ?_
                refine hr_goto hC 110 dX8_typeOfOwn_105 (by decide) ?_
                obtain rfl := Option.some.inj h
                exact hr_sub _ rfl (J25)
            · rw [if_pos c32] at h
              refine hr_bipush (v := 105) hC dX8_typeOfOwn_87 rfl ?_
              refine hr_goto hC 110 dX8_typeOfOwn_89 (by decide) ?_
              obtain rfl := Option.some.inj h
              exact hr_sub _ rfl (J25)
          · rw [if_pos c22] at h
            refine hr_bipush (v := 63) hC dX8_typeOfOwn_70 rfl ?_
            refine hr_goto hC 110 dX8_typeOfOwn_72 (by decide) ?_
            obtain rfl := Option.some.inj h
            exact hr_sub _ rfl (J25)
        refine hr_if_ne (x := _) hC 58 dX8_typeOfOwn_51 (by decide) (fun c59 => ?_) (fun c59 => ?_)
        · refine hr_iconst (v := 0) hC dX8_typeOfOwn_58 rfl ?_
          exact hr_sub _ rfl (J57 _ (by first | (rw [if_neg c59]; done) | (simp only [if_neg c59]; done) | rfl))
        · refine hr_iconst (v := 1) hC dX8_typeOfOwn_54 rfl ?_
          refine hr_goto hC 59 dX8_typeOfOwn_55 (by decide) ?_
          exact hr_sub _ rfl (J57 _ (by first | (rw [if_pos c59]; done) | (simp only [if_pos c59]; done) | rfl))
      refine hr_icmp_ne (x := _) hC 44 dX8_typeOfOwn_37 (by decide) (fun c62 => ?_) (fun c62 => ?_)
      · refine hr_iconst (v := 0) hC dX8_typeOfOwn_44 rfl ?_
        exact hr_sub _ rfl (J60 _ (by first | (rw [if_neg c62]; done) | (simp only [if_neg c62]; done) | rfl))
      · refine hr_iconst (v := 1) hC dX8_typeOfOwn_40 rfl ?_
        refine hr_goto hC 45 dX8_typeOfOwn_41 (by decide) ?_
        exact hr_sub _ rfl (J60 _ (by first | (rw [if_pos c62]; done) | (simp only [if_pos c62]; done) | rfl))
set_option maxRecDepth 20000 in
set_option maxHeartbeats 4000000 in
theorem okbX8_typeOfOwn (l : Launch) (E : hc_E) (A : Nat → Prop) (d : Nat) {kk : Nat} (n : Nat) (k0 : Nat) (rec : Nat → List Int32 → hc_St → Option (Int32 × hc_St)) (hD : kk + 1 * k0 + 9 ≤ d) (IH : ∀ (w : Nat) (a : List Int32) (σ : hc_St) (r : (Int32 × hc_St)), rec w a σ = some r → ∀ am, okg_X8_isTold l E A (d - 1) am w a σ r) {x1 : Int32} {x2 : Int32} {σ : hc_St} {r : (Int32 × hc_St)} (h : bd_X8_typeOfOwn n k0 rec x1 x2 σ = some r) (am : Nat → Nat → Nat) : hc_M l hc_V0 yX8_typeOfOwn (ws_ yX8_typeOfOwn cX8_typeOfOwn 7 (some .int)) d E A [.ref (E.2.1 8), .int x1, .int x2] am [] σ (.inl (some (.int r.1))) r.2 := by
  have hd1 : 1 ≤ d := by omega
  have hd8 : 9 ≤ d := by omega
  refine hc_enter2 (own := RX8) [(0, .ref (E.2.1 8)), (1, .int x1), (2, .int x2)] pl_X8 rfl hc_V0_st hc_G0_nd rfl (Nat.le_of_ble_eq_true rfl) (fun X hC hem => ?_)
  unfold bd_X8_typeOfOwn at h
  refine hr_aload_n hC dX8_typeOfOwn_0 rfl ?_
  refine hr_gO 6 hC F8_0 rfl dX8_typeOfOwn_1 q661 ?_
  refine hr_iload_n hC dX8_typeOfOwn_4 rfl ?_
  obtain ⟨r1, e2, h⟩ := hx_bind h
  refine hs_callV0 hC 6 [_] _ dX8_typeOfOwn_5 q1575 q1576 q1577 q320 q1578 np_X6 rfl OB_6 pd_X6_first (Nat.le_of_ble_eq_true rfl) hd1 (okX6_first l E A (d - 1)  (by omega)  e2 am) rfl ?_
  refine hr_istore_n hC dX8_typeOfOwn_8 (by decide) ?_
  refine hr_iconst (v := 0) hC dX8_typeOfOwn_9 rfl ?_
  refine hr_istore hC dX8_typeOfOwn_10 (by decide) ?_
  refine hr_aload_n hC dX8_typeOfOwn_12 rfl ?_
  refine hr_gO 6 hC F8_0 rfl dX8_typeOfOwn_13 q661 ?_
  refine hr_iload_n hC dX8_typeOfOwn_16 rfl ?_
  obtain ⟨r5, e6, h⟩ := hx_bind h
  refine hs_callV0 hC 6 [_] _ dX8_typeOfOwn_17 q1575 q1576 q1577 q320 q1578 np_X6 rfl OB_6 pd_X6_first (Nat.le_of_ble_eq_true rfl) hd1 (okX6_first l E A (d - 1)  (by omega)  e6 am) rfl ?_
  refine hr_istore hC dX8_typeOfOwn_20 (by decide) ?_
  obtain ⟨r63, e64, h⟩ := hx_bind h
  refine hr_sub _ rfl (ll_X8_typeOfOwn_22 n k0 rec hD hem IH hC n _ _ _ _ _ _ _ am e64 ?_)
  refine hr_iload hC dX8_typeOfOwn_145 rfl ?_
  obtain ⟨r70, e71, h⟩ := hx_bind h
  have J72 : hc_At hc_V0 E 7 X 178 [(0, .ref (E.2.1 8)), (2, .int x2)] [] r70 am [] := by
    refine hr_aload_n hC dX8_typeOfOwn_178 rfl ?_
    refine hr_gO 6 hC F8_0 rfl dX8_typeOfOwn_179 q661 ?_
    refine hr_iload_n hC dX8_typeOfOwn_182 rfl ?_
    obtain ⟨r96, e97, h⟩ := hx_bind h
    refine hs_callV0 hC 6 [_] _ dX8_typeOfOwn_183 q1638 q1639 q1640 q320 q1641 np_X6 rfl OB_6 pd_X6_op (Nat.le_of_ble_eq_true rfl) hd1 (okX6_op l E A (d - 1)  (by omega)  e97 am) rfl ?_
    refine hr_iconst (v := 2) hC dX8_typeOfOwn_186 rfl ?_
    obtain ⟨v102, hv102, h⟩ := hl_ok h
    have J103 : ∀ w104 : Int32, (if r96 = 2 then 3 else 0) = w104 → hc_At hc_V0 E 7 X 195 [] [.int w104] r70 am [] := by
      intro w104 hw104
      obtain rfl := hv102.trans hw104
      obtain rfl := Option.some.inj h
      exact hr_iret hC dX8_typeOfOwn_195
    refine hr_icmp_ne (x := _) hC 194 dX8_typeOfOwn_187 (by decide) (fun c105 => ?_) (fun c105 => ?_)
    · refine hr_iconst (v := 0) hC dX8_typeOfOwn_194 rfl ?_
      exact hr_sub _ rfl (J103 _ (by first | (rw [if_neg c105]; done) | (simp only [if_neg c105]; done) | rfl))
    · refine hr_iconst (v := 3) hC dX8_typeOfOwn_190 rfl ?_
      refine hr_goto hC 195 dX8_typeOfOwn_191 (by decide) ?_
      exact hr_sub _ rfl (J103 _ (by first | (rw [if_pos c105]; done) | (simp only [if_pos c105]; done) | rfl))
  clear h
  have h := e71
  refine hr_if_ne (x := _) hC 162 dX8_typeOfOwn_147 (by decide) (fun c69 => ?_) (fun c69 => ?_)
  · rw [if_neg c69] at h
    refine hr_aload_n hC dX8_typeOfOwn_162 rfl ?_
    refine hr_gO 9 hC F8_3 rfl dX8_typeOfOwn_163 q664 ?_
    refine hr_iconst (v := 4) hC dX8_typeOfOwn_166 rfl ?_
    refine hr_aload_n hC dX8_typeOfOwn_167 rfl ?_
    refine hr_gO 6 hC F8_0 rfl dX8_typeOfOwn_168 q661 ?_
    refine hr_iload_n hC dX8_typeOfOwn_171 rfl ?_
    obtain ⟨r74, e75, h⟩ := hx_bind h
    refine hs_callV0 hC 6 [_] _ dX8_typeOfOwn_172 q1638 q1639 q1640 q320 q1641 np_X6 rfl OB_6 pd_X6_op (Nat.le_of_ble_eq_true rfl) hd1 (okX6_op l E A (d - 1)  (by omega)  e75 am) rfl ?_
    obtain ⟨r78, e79, h⟩ := hx_bind h
    refine hs_callV0 hC 9 [_, _] _ dX8_typeOfOwn_175 q1597 q1598 q1599 q323 q1600 np_X9 rfl OB_9 pd_X9_say (Nat.le_of_ble_eq_true rfl) hd1 (okX9_say l E A (d - 1)  (by omega)  e79 am) rfl ?_
    obtain rfl := Option.some.inj h
    exact hr_sub _ rfl (J72)
  · rw [if_pos c69] at h
    refine hr_aload_n hC dX8_typeOfOwn_150 rfl ?_
    refine hr_gO 6 hC F8_0 rfl dX8_typeOfOwn_151 q661 ?_
    refine hr_iload_n hC dX8_typeOfOwn_154 rfl ?_
    obtain ⟨r82, e83, h⟩ := hx_bind h
    refine hs_callV0 hC 6 [_] _ dX8_typeOfOwn_155 q1579 q1369 q1370 q320 q1371 np_X6 rfl OB_6 pd_X6_kind (Nat.le_of_ble_eq_true rfl) hd1 (okX6_kind l E A (d - 1)  (by omega)  e83 am) rfl ?_
    refine hr_iconst (v := 5) hC dX8_typeOfOwn_158 rfl ?_
    refine hr_icmp_ne (x := _) hC 178 dX8_typeOfOwn_159 (by decide) (fun c87 => ?_) (fun c87 => ?_)
    · rw [if_neg c87] at h
      obtain rfl := Option.some.inj h
      exact hr_sub _ rfl (J72)
    · rw [if_pos c87] at h
      refine hr_aload_n hC dX8_typeOfOwn_162 rfl ?_
      refine hr_gO 9 hC F8_3 rfl dX8_typeOfOwn_163 q664 ?_
      refine hr_iconst (v := 4) hC dX8_typeOfOwn_166 rfl ?_
      refine hr_aload_n hC dX8_typeOfOwn_167 rfl ?_
      refine hr_gO 6 hC F8_0 rfl dX8_typeOfOwn_168 q661 ?_
      refine hr_iload_n hC dX8_typeOfOwn_171 rfl ?_
      obtain ⟨r88, e89, h⟩ := hx_bind h
      refine hs_callV0 hC 6 [_] _ dX8_typeOfOwn_172 q1638 q1639 q1640 q320 q1641 np_X6 rfl OB_6 pd_X6_op (Nat.le_of_ble_eq_true rfl) hd1 (okX6_op l E A (d - 1)  (by omega)  e89 am) rfl ?_
      obtain ⟨r92, e93, h⟩ := hx_bind h
      refine hs_callV0 hC 9 [_, _] _ dX8_typeOfOwn_175 q1597 q1598 q1599 q323 q1600 np_X9 rfl OB_9 pd_X9_say (Nat.le_of_ble_eq_true rfl) hd1 (okX9_say l E A (d - 1)  (by omega)  e93 am) rfl ?_
      obtain rfl := Option.some.inj h
      exact hr_sub _ rfl (J72)
/-- HomeCompiler$Checker.typeOfIndex(I)I -/
def bd_X8_typeOfIndex (n : Nat) (k0 : Nat) (rec : Nat → List Int32 → hc_St → Option (Int32 × hc_St)) (x1 : Int32) (σ : hc_St) : Option (Int32 × hc_St) := Option.bind (fm_X6_value x1 σ) fun r1 => Option.bind (fm_X10_find r1 σ) fun r5 => Option.bind (α := hc_St) (if r5 = (-1) then (Option.bind (fm_X6_op x1 σ) fun r47 => Option.bind (fm_X9_say 2 r47 σ) fun r51 => some (r51)) else (Option.bind (fm_X10_sort r5 σ) fun r15 => if r15 = 1 then (Option.bind (fm_X10_value r5 σ) fun r29 => Option.bind (fm_X8_typeOfVariable x1 r29 σ) fun r33 => if r33.1 = 0 then (Option.bind (fm_X6_op x1 r33.2) fun r39 => Option.bind (fm_X9_say 3 r39 r33.2) fun r43 => some (r43)) else (some (r33.2))) else (Option.bind (fm_X6_op x1 σ) fun r21 => Option.bind (fm_X9_say 3 r21 σ) fun r25 => some (r25)))) fun r11 => Option.bind (fm_X6_first x1 r11) fun r55 => Option.bind (rec 1 [r55] r11) fun r59 => some (0, r59.2)
set_option maxRecDepth 20000 in
set_option maxHeartbeats 4000000 in
theorem okbX8_typeOfIndex (l : Launch) (E : hc_E) (A : Nat → Prop) (d : Nat) {kk : Nat} (n : Nat) (k0 : Nat) (rec : Nat → List Int32 → hc_St → Option (Int32 × hc_St)) (hD : kk + 1 * k0 + 9 ≤ d) (IH : ∀ (w : Nat) (a : List Int32) (σ : hc_St) (r : (Int32 × hc_St)), rec w a σ = some r → ∀ am, okg_X8_isTold l E A (d - 1) am w a σ r) {x1 : Int32} {σ : hc_St} {r : (Int32 × hc_St)} (h : bd_X8_typeOfIndex n k0 rec x1 σ = some r) (am : Nat → Nat → Nat) : hc_M l hc_V0 yX8_typeOfIndex (ws_ yX8_typeOfIndex cX8_typeOfIndex 3 (some .int)) d E A [.ref (E.2.1 8), .int x1] am [] σ (.inl (some (.int r.1))) r.2 := by
  have hd1 : 1 ≤ d := by omega
  have hd8 : 9 ≤ d := by omega
  refine hc_enter2 (own := RX8) [(0, .ref (E.2.1 8)), (1, .int x1)] pl_X8 rfl hc_V0_st hc_G0_nd rfl (Nat.le_of_ble_eq_true rfl) (fun X hC hem => ?_)
  unfold bd_X8_typeOfIndex at h
  refine hr_aload_n hC dX8_typeOfIndex_0 rfl ?_
  refine hr_gO 10 hC F8_4 rfl dX8_typeOfIndex_1 q665 ?_
  refine hr_aload_n hC dX8_typeOfIndex_4 rfl ?_
  refine hr_gO 6 hC F8_0 rfl dX8_typeOfIndex_5 q661 ?_
  refine hr_iload_n hC dX8_typeOfIndex_8 rfl ?_
  obtain ⟨r1, e2, h⟩ := hx_bind h
  refine hs_callV0 hC 6 [_] _ dX8_typeOfIndex_9 q1585 q1586 q1587 q320 q1588 np_X6 rfl OB_6 pd_X6_value (Nat.le_of_ble_eq_true rfl) hd1 (okX6_value l E A (d - 1)  (by omega)  e2 am) rfl ?_
  obtain ⟨r5, e6, h⟩ := hx_bind h
  refine hs_callV0 hC 10 [_] _ dX8_typeOfIndex_12 q1630 q1631 q1632 q324 q1633 np_X10 rfl OB_10 pd_X10_find (Nat.le_of_ble_eq_true rfl) hd1 (okX10_find l E A (d - 1)  (by omega)  e6 am) rfl ?_
  refine hr_istore_n hC dX8_typeOfIndex_15 (by decide) ?_
  refine hr_iload_n hC dX8_typeOfIndex_16 rfl ?_
  refine hr_iconst (v := (-1)) hC dX8_typeOfIndex_17 rfl ?_
  obtain ⟨r11, e12, h⟩ := hx_bind h
  have J13 : hc_At hc_V0 E 3 X 84 [(0, .ref (E.2.1 8)), (1, .int x1)] [] r11 am [] := by
    refine hr_aload_n hC dX8_typeOfIndex_84 rfl ?_
    refine hr_aload_n hC dX8_typeOfIndex_85 rfl ?_
    refine hr_gO 6 hC F8_0 rfl dX8_typeOfIndex_86 q661 ?_
    refine hr_iload_n hC dX8_typeOfIndex_89 rfl ?_
    obtain ⟨r55, e56, h⟩ := hx_bind h
    refine hs_callV0 hC 6 [_] _ dX8_typeOfIndex_90 q1575 q1576 q1577 q320 q1578 np_X6 rfl OB_6 pd_X6_first (Nat.le_of_ble_eq_true rfl) hd1 (okX6_first l E A (d - 1)  (by omega)  e56 am) rfl ?_
    obtain ⟨r59, e60, h⟩ := hx_bind h
    refine hs_callV0 hC 8 [_] _ dX8_typeOfIndex_93 q1618 q1620 qs60 q322 q1621 np_X8 rfl OB_8 pd_X8_number (Nat.le_of_ble_eq_true rfl) hd1 (IH _ _ _ _ e60 am) rfl ?_
    refine hr_iconst (v := 0) hC dX8_typeOfIndex_96 rfl ?_
    obtain rfl := Option.some.inj h
    exact hr_iret hC dX8_typeOfIndex_97
  clear h
  have h := e12
  refine hr_icmp_ne (x := _) hC 40 dX8_typeOfIndex_18 (by decide) (fun c10 => ?_) (fun c10 => ?_)
  · rw [if_neg c10] at h
    refine hr_aload_n hC dX8_typeOfIndex_40 rfl ?_
    refine hr_gO 10 hC F8_4 rfl dX8_typeOfIndex_41 q665 ?_
    refine hr_iload_n hC dX8_typeOfIndex_44 rfl ?_
    obtain ⟨r15, e16, h⟩ := hx_bind h
    refine hs_callV0 hC 10 [_] _ dX8_typeOfIndex_45 q1634 q1635 q1636 q324 q1637 np_X10 rfl OB_10 pd_X10_sort (Nat.le_of_ble_eq_true rfl) hd1 (okX10_sort l E A (d - 1)  (by omega)  e16 am) rfl ?_
    refine hr_iconst (v := 1) hC dX8_typeOfIndex_48 rfl ?_
    refine hr_icmp_ne (x := _) hC 68 dX8_typeOfIndex_49 (by decide) (fun c20 => ?_) (fun c20 => ?_)
    · rw [if_neg c20] at h
      refine hr_aload_n hC dX8_typeOfIndex_68 rfl ?_
      refine hr_gO 9 hC F8_3 rfl dX8_typeOfIndex_69 q664 ?_
      refine hr_iconst (v := 3) hC dX8_typeOfIndex_72 rfl ?_
      refine hr_aload_n hC dX8_typeOfIndex_73 rfl ?_
      refine hr_gO 6 hC F8_0 rfl dX8_typeOfIndex_74 q661 ?_
      refine hr_iload_n hC dX8_typeOfIndex_77 rfl ?_
      obtain ⟨r21, e22, h⟩ := hx_bind h
      refine hs_callV0 hC 6 [_] _ dX8_typeOfIndex_78 q1638 q1639 q1640 q320 q1641 np_X6 rfl OB_6 pd_X6_op (Nat.le_of_ble_eq_true rfl) hd1 (okX6_op l E A (d - 1)  (by omega)  e22 am) rfl ?_
      obtain ⟨r25, e26, h⟩ := hx_bind h
      refine hs_callV0 hC 9 [_, _] _ dX8_typeOfIndex_81 q1597 q1598 q1599 q323 q1600 np_X9 rfl OB_9 pd_X9_say (Nat.le_of_ble_eq_true rfl) hd1 (okX9_say l E A (d - 1)  (by omega)  e26 am) rfl ?_
      obtain rfl := Option.some.inj h
      exact hr_sub _ rfl (J13)
    · rw [if_pos c20] at h
      refine hr_aload_n hC dX8_typeOfIndex_52 rfl ?_
      refine hr_iload_n hC dX8_typeOfIndex_53 rfl ?_
      refine hr_aload_n hC dX8_typeOfIndex_54 rfl ?_
      refine hr_gO 10 hC F8_4 rfl dX8_typeOfIndex_55 q665 ?_
      refine hr_iload_n hC dX8_typeOfIndex_58 rfl ?_
      obtain ⟨r29, e30, h⟩ := hx_bind h
      refine hs_callV0 hC 10 [_] _ dX8_typeOfIndex_59 q1642 q1643 q1644 q324 q1645 np_X10 rfl OB_10 pd_X10_value (Nat.le_of_ble_eq_true rfl) hd1 (okX10_value l E A (d - 1)  (by omega)  e30 am) rfl ?_
      obtain ⟨r33, e34, h⟩ := hx_bind h
      refine hs_callV0 hC 8 [_, _] _ dX8_typeOfIndex_62 q1650 q1652 qs63 q322 q1653 np_X8 rfl OB_8 pd_X8_typeOfVariable (Nat.le_of_ble_eq_true rfl) hd1 (okX8_typeOfVariable l E A (d - 1)  (by omega)  e34 am) rfl ?_
      refine hr_if_ne (x := _) hC 84 dX8_typeOfIndex_65 (by decide) (fun c38 => ?_) (fun c38 => ?_)
      · rw [if_neg c38] at h
        obtain rfl := Option.some.inj h
        exact hr_sub _ rfl (J13)
      · rw [if_pos c38] at h
        refine hr_aload_n hC dX8_typeOfIndex_68 rfl ?_
        refine hr_gO 9 hC F8_3 rfl dX8_typeOfIndex_69 q664 ?_
        refine hr_iconst (v := 3) hC dX8_typeOfIndex_72 rfl ?_
        refine hr_aload_n hC dX8_typeOfIndex_73 rfl ?_
        refine hr_gO 6 hC F8_0 rfl dX8_typeOfIndex_74 q661 ?_
        refine hr_iload_n hC dX8_typeOfIndex_77 rfl ?_
        obtain ⟨r39, e40, h⟩ := hx_bind h
        refine hs_callV0 hC 6 [_] _ dX8_typeOfIndex_78 q1638 q1639 q1640 q320 q1641 np_X6 rfl OB_6 pd_X6_op (Nat.le_of_ble_eq_true rfl) hd1 (okX6_op l E A (d - 1)  (by omega)  e40 am) rfl ?_
        obtain ⟨r43, e44, h⟩ := hx_bind h
        refine hs_callV0 hC 9 [_, _] _ dX8_typeOfIndex_81 q1597 q1598 q1599 q323 q1600 np_X9 rfl OB_9 pd_X9_say (Nat.le_of_ble_eq_true rfl) hd1 (okX9_say l E A (d - 1)  (by omega)  e44 am) rfl ?_
        obtain rfl := Option.some.inj h
        exact hr_sub _ rfl (J13)
  · rw [if_pos c10] at h
    refine hr_aload_n hC dX8_typeOfIndex_21 rfl ?_
    refine hr_gO 9 hC F8_3 rfl dX8_typeOfIndex_22 q664 ?_
    refine hr_iconst (v := 2) hC dX8_typeOfIndex_25 rfl ?_
    refine hr_aload_n hC dX8_typeOfIndex_26 rfl ?_
    refine hr_gO 6 hC F8_0 rfl dX8_typeOfIndex_27 q661 ?_
    refine hr_iload_n hC dX8_typeOfIndex_30 rfl ?_
    obtain ⟨r47, e48, h⟩ := hx_bind h
    refine hs_callV0 hC 6 [_] _ dX8_typeOfIndex_31 q1638 q1639 q1640 q320 q1641 np_X6 rfl OB_6 pd_X6_op (Nat.le_of_ble_eq_true rfl) hd1 (okX6_op l E A (d - 1)  (by omega)  e48 am) rfl ?_
    obtain ⟨r51, e52, h⟩ := hx_bind h
    refine hs_callV0 hC 9 [_, _] _ dX8_typeOfIndex_34 q1597 q1598 q1599 q323 q1600 np_X9 rfl OB_9 pd_X9_say (Nat.le_of_ble_eq_true rfl) hd1 (okX9_say l E A (d - 1)  (by omega)  e52 am) rfl ?_
    refine hr_goto hC 84 dX8_typeOfIndex_37 (by decide) ?_
    obtain rfl := Option.some.inj h
    exact hr_sub _ rfl (J13)
/-- HomeCompiler$Checker.target(I)V -/
def bd_X8_target (n : Nat) (k0 : Nat) (rec : Nat → List Int32 → hc_St → Option (Int32 × hc_St)) (x1 : Int32) (σ : hc_St) : Option (Int32 × hc_St) := Option.bind (fm_X6_kind x1 σ) fun r1 => if r1 = 40 then (Option.bind (rec 7 [x1] σ) fun r95 => some (0, r95.2)) else (Option.bind (rec 2 [x1] σ) fun r7 => Option.bind (α := Int32) (if r1 = 38 then (Option.bind (fm_X6_value x1 r7.2) fun r17 => Option.bind (fm_X10_find r17 r7.2) fun r21 => some (r21)) else (some ((-1)))) fun r13 => Option.bind (α := hc_St) (if r1 = 38 then (if r13 = (-1) then (if r7.1 = 1 then (Option.bind (fm_X6_place x1 r7.2) fun r43 => Option.bind (fm_X9_say 3 r43 r7.2) fun r47 => some (r47)) else (if r7.1 = 2 then (Option.bind (fm_X6_place x1 r7.2) fun r53 => Option.bind (fm_X9_say 3 r53 r7.2) fun r57 => some (r57)) else (some (r7.2)))) else (Option.bind (fm_X10_sort r13 r7.2) fun r61 => if r61 = 3 then (Option.bind (fm_X6_place x1 r7.2) fun r87 => Option.bind (fm_X9_say 6 r87 r7.2) fun r91 => some (r91)) else (if r7.1 = 1 then (Option.bind (fm_X6_place x1 r7.2) fun r69 => Option.bind (fm_X9_say 3 r69 r7.2) fun r73 => some (r73)) else (if r7.1 = 2 then (Option.bind (fm_X6_place x1 r7.2) fun r79 => Option.bind (fm_X9_say 3 r79 r7.2) fun r83 => some (r83)) else (some (r7.2)))))) else (Option.bind (fm_X6_place x1 r7.2) fun r31 => Option.bind (fm_X9_say 6 r31 r7.2) fun r35 => some (r35))) fun r27 => some (0, r27))
set_option maxRecDepth 20000 in
set_option maxHeartbeats 4000000 in
theorem okbX8_target (l : Launch) (E : hc_E) (A : Nat → Prop) (d : Nat) {kk : Nat} (n : Nat) (k0 : Nat) (rec : Nat → List Int32 → hc_St → Option (Int32 × hc_St)) (hD : kk + 1 * k0 + 9 ≤ d) (IH : ∀ (w : Nat) (a : List Int32) (σ : hc_St) (r : (Int32 × hc_St)), rec w a σ = some r → ∀ am, okg_X8_isTold l E A (d - 1) am w a σ r) {x1 : Int32} {σ : hc_St} {r : (Int32 × hc_St)} (h : bd_X8_target n k0 rec x1 σ = some r) (am : Nat → Nat → Nat) : hc_M l hc_V0 yX8_target (ws_ yX8_target cX8_target 5 none) d E A [.ref (E.2.1 8), .int x1] am [] σ (.inl (none)) r.2 := by
  have hd1 : 1 ≤ d := by omega
  have hd8 : 9 ≤ d := by omega
  refine hc_enter2 (own := RX8) [(0, .ref (E.2.1 8)), (1, .int x1)] pl_X8 rfl hc_V0_st hc_G0_nd rfl (Nat.le_of_ble_eq_true rfl) (fun X hC hem => ?_)
  unfold bd_X8_target at h
  refine hr_aload_n hC dX8_target_0 rfl ?_
  refine hr_gO 6 hC F8_0 rfl dX8_target_1 q661 ?_
  refine hr_iload_n hC dX8_target_4 rfl ?_
  obtain ⟨r1, e2, h⟩ := hx_bind h
  refine hs_callV0 hC 6 [_] _ dX8_target_5 q1579 q1369 q1370 q320 q1371 np_X6 rfl OB_6 pd_X6_kind (Nat.le_of_ble_eq_true rfl) hd1 (okX6_kind l E A (d - 1)  (by omega)  e2 am) rfl ?_
  refine hr_istore_n hC dX8_target_8 (by decide) ?_
  refine hr_iload_n hC dX8_target_9 rfl ?_
  refine hr_bipush (v := 40) hC dX8_target_10 rfl ?_
  refine hr_icmp_ne (x := _) hC 22 dX8_target_12 (by decide) (fun c6 => ?_) (fun c6 => ?_)
  · rw [if_neg c6] at h
    refine hr_aload_n hC dX8_target_22 rfl ?_
    refine hr_iload_n hC dX8_target_23 rfl ?_
    obtain ⟨r7, e8, h⟩ := hx_bind h
    refine hs_callV0 hC 8 [_] _ dX8_target_24 q1622 q1624 qs61 q322 q1625 np_X8 rfl OB_8 pd_X8_typeOf (Nat.le_of_ble_eq_true rfl) hd1 (IH _ _ _ _ e8 am) rfl ?_
    refine hr_istore_n hC dX8_target_27 (by decide) ?_
    refine hr_iload_n hC dX8_target_28 rfl ?_
    refine hr_bipush (v := 38) hC dX8_target_29 rfl ?_
    obtain ⟨r13, e14, h⟩ := hx_bind h
    have J15 : hc_At hc_V0 E 5 X 53 [(0, .ref (E.2.1 8)), (1, .int x1), (2, .int r1), (3, .int r7.1)] [.int r13] r7.2 am [] := by
      refine hr_istore hC dX8_target_53 (by decide) ?_
      refine hr_iload_n hC dX8_target_55 rfl ?_
      refine hr_bipush (v := 38) hC dX8_target_56 rfl ?_
      obtain ⟨r27, e28, h⟩ := hx_bind h
      have J29 : hc_At hc_V0 E 5 X 126 [] [] r27 am [] := by
        obtain rfl := Option.some.inj h
        exact hr_vret hC dX8_target_126
      clear h
      have h := e28
      refine hr_icmp_ne (x := _) hC 80 dX8_target_58 (by decide) (fun c26 => ?_) (fun c26 => ?_)
      · rw [if_neg c26] at h
        refine hr_aload_n hC dX8_target_80 rfl ?_
        refine hr_gO 9 hC F8_3 rfl dX8_target_81 q664 ?_
        refine hr_bipush (v := 6) hC dX8_target_84 rfl ?_
        refine hr_aload_n hC dX8_target_86 rfl ?_
        refine hr_gO 6 hC F8_0 rfl dX8_target_87 q661 ?_
        refine hr_iload_n hC dX8_target_90 rfl ?_
        obtain ⟨r31, e32, h⟩ := hx_bind h
        refine hs_callV0 hC 6 [_] _ dX8_target_91 q1593 q1594 q1595 q320 q1596 np_X6 rfl OB_6 pd_X6_place (Nat.le_of_ble_eq_true rfl) hd1 (okX6_place l E A (d - 1)  (by omega)  e32 am) rfl ?_
        obtain ⟨r35, e36, h⟩ := hx_bind h
        refine hs_callV0 hC 9 [_, _] _ dX8_target_94 q1597 q1598 q1599 q323 q1600 np_X9 rfl OB_9 pd_X9_say (Nat.le_of_ble_eq_true rfl) hd1 (okX9_say l E A (d - 1)  (by omega)  e36 am) rfl ?_
        refine hr_goto hC 126 dX8_target_97 (by decide) ?_
        obtain rfl := Option.some.inj h
        exact hr_sub _ rfl (J29)
      · rw [if_pos c26] at h
        refine hr_iload hC dX8_target_61 rfl ?_
        refine hr_iconst (v := (-1)) hC dX8_target_63 rfl ?_
        refine hr_icmp_eq (x := _) hC 100 dX8_target_64 (by decide) (fun c40 => ?_) (fun c40 => ?_)
        · rw [if_pos c40] at h
          refine hr_iload_n hC dX8_target_100 rfl ?_
          refine hr_iconst (v := 1) hC dX8_target_101 rfl ?_
          refine hr_icmp_eq (x := _) hC 110 dX8_target_102 (by decide) (fun c42 => ?_) (fun c42 => ?_)
          · rw [if_pos c42] at h
            refine hr_aload_n hC dX8_target_110 rfl ?_
            refine hr_gO 9 hC F8_3 rfl dX8_target_111 q664 ?_
            refine hr_iconst (v := 3) hC dX8_target_114 rfl ?_
            refine hr_aload_n hC dX8_target_115 rfl ?_
            refine hr_gO 6 hC F8_0 rfl dX8_target_116 q661 ?_
            refine hr_iload_n hC dX8_target_119 rfl ?_
            obtain ⟨r43, e44, h⟩ := hx_bind h
            refine hs_callV0 hC 6 [_] _ dX8_target_120 q1593 q1594 q1595 q320 q1596 np_X6 rfl OB_6 pd_X6_place (Nat.le_of_ble_eq_true rfl) hd1 (okX6_place l E A (d - 1)  (by omega)  e44 am) rfl ?_
            obtain ⟨r47, e48, h⟩ := hx_bind h
            refine hs_callV0 hC 9 [_, _] _ dX8_target_123 q1597 q1598 q1599 q323 q1600 np_X9 rfl OB_9 pd_X9_say (Nat.le_of_ble_eq_true rfl) hd1 (okX9_say l E A (d - 1)  (by omega)  e48 am) rfl ?_
            obtain rfl := Option.some.inj h
            exact hr_sub _ rfl (J29)
          · rw [if_neg c42] at h
            refine hr_iload_n hC dX8_target_105 rfl ?_
            refine hr_iconst (v := 2) hC dX8_target_106 rfl ?_
            refine hr_icmp_ne (x := _) hC 126 dX8_target_107 (by decide) (fun c52 => ?_) (fun c52 => ?_)
            · rw [if_neg c52] at h
              obtain rfl := Option.some.inj h
              exact hr_sub _ rfl (J29)
            · rw [if_pos c52] at h
              refine hr_aload_n hC dX8_target_110 rfl ?_
              refine hr_gO 9 hC F8_3 rfl dX8_target_111 q664 ?_
              refine hr_iconst (v := 3) hC dX8_target_114 rfl ?_
              refine hr_aload_n hC dX8_target_115 rfl ?_
              refine hr_gO 6 hC F8_0 rfl dX8_target_116 q661 ?_
              refine hr_iload_n hC dX8_target_119 rfl ?_
              obtain ⟨r53, e54, h⟩ := hx_bind h
              refine hs_callV0 hC 6 [_] _ dX8_target_120 q1593 q1594 q1595 q320 q1596 np_X6 rfl OB_6 pd_X6_place (Nat.le_of_ble_eq_true rfl) hd1 (okX6_place l E A (d - 1)  (by omega)  e54 am) rfl ?_
              obtain ⟨r57, e58, h⟩ := hx_bind h
              refine hs_callV0 hC 9 [_, _] _ dX8_target_123 q1597 q1598 q1599 q323 q1600 np_X9 rfl OB_9 pd_X9_say (Nat.le_of_ble_eq_true rfl) hd1 (okX9_say l E A (d - 1)  (by omega)  e58 am) rfl ?_
              obtain rfl := Option.some.inj h
              exact hr_sub _ rfl (J29)
        · rw [if_neg c40] at h
          refine hr_aload_n hC dX8_target_67 rfl ?_
          refine hr_gO 10 hC F8_4 rfl dX8_target_68 q665 ?_
          refine hr_iload hC dX8_target_71 rfl ?_
          obtain ⟨r61, e62, h⟩ := hx_bind h
          refine hs_callV0 hC 10 [_] _ dX8_target_73 q1634 q1635 q1636 q324 q1637 np_X10 rfl OB_10 pd_X10_sort (Nat.le_of_ble_eq_true rfl) hd1 (okX10_sort l E A (d - 1)  (by omega)  e62 am) rfl ?_
          refine hr_iconst (v := 3) hC dX8_target_76 rfl ?_
          refine hr_icmp_ne (x := _) hC 100 dX8_target_77 (by decide) (fun c66 => ?_) (fun c66 => ?_)
          · rw [if_neg c66] at h
            refine hr_iload_n hC dX8_target_100 rfl ?_
            refine hr_iconst (v := 1) hC dX8_target_101 rfl ?_
            refine hr_icmp_eq (x := _) hC 110 dX8_target_102 (by decide) (fun c68 => ?_) (fun c68 => ?_)
            · rw [if_pos c68] at h
              refine hr_aload_n hC dX8_target_110 rfl ?_
              refine hr_gO 9 hC F8_3 rfl dX8_target_111 q664 ?_
              refine hr_iconst (v := 3) hC dX8_target_114 rfl ?_
              refine hr_aload_n hC dX8_target_115 rfl ?_
              refine hr_gO 6 hC F8_0 rfl dX8_target_116 q661 ?_
              refine hr_iload_n hC dX8_target_119 rfl ?_
              obtain ⟨r69, e70, h⟩ := hx_bind h
              refine hs_callV0 hC 6 [_] _ dX8_target_120 q1593 q1594 q1595 q320 q1596 np_X6 rfl OB_6 pd_X6_place (Nat.le_of_ble_eq_true rfl) hd1 (okX6_place l E A (d - 1)  (by omega)  e70 am) rfl ?_
              obtain ⟨r73, e74, h⟩ := hx_bind h
              refine hs_callV0 hC 9 [_, _] _ dX8_target_123 q1597 q1598 q1599 q323 q1600 np_X9 rfl OB_9 pd_X9_say (Nat.le_of_ble_eq_true rfl) hd1 (okX9_say l E A (d - 1)  (by omega)  e74 am) rfl ?_
              obtain rfl := Option.some.inj h
              exact hr_sub _ rfl (J29)
            · rw [if_neg c68] at h
              refine hr_iload_n hC dX8_target_105 rfl ?_
              refine hr_iconst (v := 2) hC dX8_target_106 rfl ?_
              refine hr_icmp_ne (x := _) hC 126 dX8_target_107 (by decide) (fun c78 => ?_) (fun c78 => ?_)
              · rw [if_neg c78] at h
                obtain rfl := Option.some.inj h
                exact hr_sub _ rfl (J29)
              · rw [if_pos c78] at h
                refine hr_aload_n hC dX8_target_110 rfl ?_
                refine hr_gO 9 hC F8_3 rfl dX8_target_111 q664 ?_
                refine hr_iconst (v := 3) hC dX8_target_114 rfl ?_
                refine hr_aload_n hC dX8_target_115 rfl ?_
                refine hr_gO 6 hC F8_0 rfl dX8_target_116 q661 ?_
                refine hr_iload_n hC dX8_target_119 rfl ?_
                obtain ⟨r79, e80, h⟩ := hx_bind h
                refine hs_callV0 hC 6 [_] _ dX8_target_120 q1593 q1594 q1595 q320 q1596 np_X6 rfl OB_6 pd_X6_place (Nat.le_of_ble_eq_true rfl) hd1 (okX6_place l E A (d - 1)  (by omega)  e80 am) rfl ?_
                obtain ⟨r83, e84, h⟩ := hx_bind h
                refine hs_callV0 hC 9 [_, _] _ dX8_target_123 q1597 q1598 q1599 q323 q1600 np_X9 rfl OB_9 pd_X9_say (Nat.le_of_ble_eq_true rfl) hd1 (okX9_say l E A (d - 1)  (by omega)  e84 am) rfl ?_
                obtain rfl := Option.some.inj h
                exact hr_sub _ rfl (J29)
          · rw [if_pos c66] at h
            refine hr_aload_n hC dX8_target_80 rfl ?_
            refine hr_gO 9 hC F8_3 rfl dX8_target_81 q664 ?_
            refine hr_bipush (v := 6) hC dX8_target_84 rfl ?_
            refine hr_aload_n hC dX8_target_86 rfl ?_
            refine hr_gO 6 hC F8_0 rfl dX8_target_87 q661 ?_
            refine hr_iload_n hC dX8_target_90 rfl ?_
            obtain ⟨r87, e88, h⟩ := hx_bind h
            refine hs_callV0 hC 6 [_] _ dX8_target_91 q1593 q1594 q1595 q320 q1596 np_X6 rfl OB_6 pd_X6_place (Nat.le_of_ble_eq_true rfl) hd1 (okX6_place l E A (d - 1)  (by omega)  e88 am) rfl ?_
            obtain ⟨r91, e92, h⟩ := hx_bind h
            refine hs_callV0 hC 9 [_, _] _ dX8_target_94 q1597 q1598 q1599 q323 q1600 np_X9 rfl OB_9 pd_X9_say (Nat.le_of_ble_eq_true rfl) hd1 (okX9_say l E A (d - 1)  (by omega)  e92 am) rfl ?_
            refine hr_goto hC 126 dX8_target_97 (by decide) ?_
            obtain rfl := Option.some.inj h
            exact hr_sub _ rfl (J29)
    clear h
    have h := e14
    refine hr_icmp_ne (x := _) hC 52 dX8_target_31 (by decide) (fun c12 => ?_) (fun c12 => ?_)
    · rw [if_neg c12] at h
      refine hr_iconst (v := (-1)) hC dX8_target_52 rfl ?_
      obtain rfl := Option.some.inj h
      exact hr_sub _ rfl (J15)
    · rw [if_pos c12] at h
      refine hr_aload_n hC dX8_target_34 rfl ?_
      refine hr_gO 10 hC F8_4 rfl dX8_target_35 q665 ?_
      refine hr_aload_n hC dX8_target_38 rfl ?_
      refine hr_gO 6 hC F8_0 rfl dX8_target_39 q661 ?_
      refine hr_iload_n hC dX8_target_42 rfl ?_
      obtain ⟨r17, e18, h⟩ := hx_bind h
      refine hs_callV0 hC 6 [_] _ dX8_target_43 q1585 q1586 q1587 q320 q1588 np_X6 rfl OB_6 pd_X6_value (Nat.le_of_ble_eq_true rfl) hd1 (okX6_value l E A (d - 1)  (by omega)  e18 am) rfl ?_
      obtain ⟨r21, e22, h⟩ := hx_bind h
      refine hs_callV0 hC 10 [_] _ dX8_target_46 q1630 q1631 q1632 q324 q1633 np_X10 rfl OB_10 pd_X10_find (Nat.le_of_ble_eq_true rfl) hd1 (okX10_find l E A (d - 1)  (by omega)  e22 am) rfl ?_
      refine hr_goto hC 53 dX8_target_49 (by decide) ?_
      obtain rfl := Option.some.inj h
      exact hr_sub _ rfl (J15)
  · rw [if_pos c6] at h
    refine hr_aload_n hC dX8_target_15 rfl ?_
    refine hr_iload_n hC dX8_target_16 rfl ?_
    obtain ⟨r95, e96, h⟩ := hx_bind h
    refine hs_callV0 hC 8 [_] _ dX8_target_17 q1690 q1692 qs68 q322 q1693 np_X8 rfl OB_8 pd_X8_typeOfIndex (Nat.le_of_ble_eq_true rfl) hd1 (IH _ _ _ _ e96 am) rfl ?_
    refine hr_istore_n hC dX8_target_20 (by decide) ?_
    obtain rfl := Option.some.inj h
    exact hr_vret hC dX8_target_21
def rc_X8_isTold (n : Nat) (k0 : Nat) : Nat → Nat → List Int32 → hc_St → Option (Int32 × hc_St)
  | 0, _, _, _ => none
  | k + 1, w, a, σ => match w with
    | 0 => bd_X8_isTold n k0 (rc_X8_isTold n k0 k) (a.getD 0 0) σ
    | 1 => bd_X8_number n k0 (rc_X8_isTold n k0 k) (a.getD 0 0) σ
    | 2 => bd_X8_typeOf n k0 (rc_X8_isTold n k0 k) (a.getD 0 0) σ
    | 3 => bd_X8_typeOfCall n k0 (rc_X8_isTold n k0 k) (a.getD 0 0) σ
    | 4 => bd_X8_typeOfGiven n k0 (rc_X8_isTold n k0 k) (a.getD 0 0) (a.getD 1 0) σ
    | 5 => bd_X8_argument n k0 (rc_X8_isTold n k0 k) (a.getD 0 0) (a.getD 1 0) σ
    | 6 => bd_X8_typeOfOwn n k0 (rc_X8_isTold n k0 k) (a.getD 0 0) (a.getD 1 0) σ
    | 7 => bd_X8_typeOfIndex n k0 (rc_X8_isTold n k0 k) (a.getD 0 0) σ
    | 8 => bd_X8_target n k0 (rc_X8_isTold n k0 k) (a.getD 0 0) σ
    | _ => none
theorem okr_X8_isTold (l : Launch) (E : hc_E) (A : Nat → Prop) (n : Nat) (k0 : Nat) : ∀ (k d : Nat), k + 1 * k0 + 9 ≤ d → ∀ (w : Nat) (a : List Int32) (σ : hc_St) (r : (Int32 × hc_St)), rc_X8_isTold n k0 k w a σ = some r → ∀ am, okg_X8_isTold l E A d am w a σ r
  | 0, d, _, w, a, σ, r, h, am => by cases h
  | k + 1, d, hd, w, a, σ, r, h, am => by
    have IH := okr_X8_isTold l E A n k0 k (d - 1) (by omega)
    match w, h with
    | 0, h => exact okbX8_isTold l E A d (kk := k) n k0 (rc_X8_isTold n k0 k) (by omega) IH h am
    | 1, h => exact okbX8_number l E A d (kk := k) n k0 (rc_X8_isTold n k0 k) (by omega) IH h am
    | 2, h => exact okbX8_typeOf l E A d (kk := k) n k0 (rc_X8_isTold n k0 k) (by omega) IH h am
    | 3, h => exact okbX8_typeOfCall l E A d (kk := k) n k0 (rc_X8_isTold n k0 k) (by omega) IH h am
    | 4, h => exact okbX8_typeOfGiven l E A d (kk := k) n k0 (rc_X8_isTold n k0 k) (by omega) IH h am
    | 5, h => exact okbX8_argument l E A d (kk := k) n k0 (rc_X8_isTold n k0 k) (by omega) IH h am
    | 6, h => exact okbX8_typeOfOwn l E A d (kk := k) n k0 (rc_X8_isTold n k0 k) (by omega) IH h am
    | 7, h => exact okbX8_typeOfIndex l E A d (kk := k) n k0 (rc_X8_isTold n k0 k) (by omega) IH h am
    | 8, h => exact okbX8_target l E A d (kk := k) n k0 (rc_X8_isTold n k0 k) (by omega) IH h am
    | w + 9, h => trivial
def fm_X8_isTold (n : Nat) (k0 : Nat) (x1 : Int32) (σ : hc_St) : Option (Int32 × hc_St) := rc_X8_isTold n k0 k0 0 [x1] σ
theorem okX8_isTold (l : Launch) (E : hc_E) (A : Nat → Prop) (d : Nat) (n : Nat) (k0 : Nat) (hD : k0 + 1 * k0 + 9 ≤ d)  {x1 : Int32} {σ : hc_St} {r : (Int32 × hc_St)} (h : fm_X8_isTold n k0 x1 σ = some r) (am : Nat → Nat → Nat) : hc_M l hc_V0 yX8_isTold (ws_ yX8_isTold cX8_isTold 3 (some .boolean)) d E A [.ref (E.2.1 8), .int x1] am [] σ (.inl (some (.int r.1))) r.2 := okr_X8_isTold l E A n k0 k0 d hD 0 _ _ _ h am
def fm_X8_number (n : Nat) (k0 : Nat) (x1 : Int32) (σ : hc_St) : Option (Int32 × hc_St) := rc_X8_isTold n k0 k0 1 [x1] σ
theorem okX8_number (l : Launch) (E : hc_E) (A : Nat → Prop) (d : Nat) (n : Nat) (k0 : Nat) (hD : k0 + 1 * k0 + 9 ≤ d)  {x1 : Int32} {σ : hc_St} {r : (Int32 × hc_St)} (h : fm_X8_number n k0 x1 σ = some r) (am : Nat → Nat → Nat) : hc_M l hc_V0 yX8_number (ws_ yX8_number cX8_number 3 none) d E A [.ref (E.2.1 8), .int x1] am [] σ (.inl (none)) r.2 := okr_X8_isTold l E A n k0 k0 d hD 1 _ _ _ h am
def fm_X8_typeOf (n : Nat) (k0 : Nat) (x1 : Int32) (σ : hc_St) : Option (Int32 × hc_St) := rc_X8_isTold n k0 k0 2 [x1] σ
theorem okX8_typeOf (l : Launch) (E : hc_E) (A : Nat → Prop) (d : Nat) (n : Nat) (k0 : Nat) (hD : k0 + 1 * k0 + 9 ≤ d)  {x1 : Int32} {σ : hc_St} {r : (Int32 × hc_St)} (h : fm_X8_typeOf n k0 x1 σ = some r) (am : Nat → Nat → Nat) : hc_M l hc_V0 yX8_typeOf (ws_ yX8_typeOf cX8_typeOf 3 (some .int)) d E A [.ref (E.2.1 8), .int x1] am [] σ (.inl (some (.int r.1))) r.2 := okr_X8_isTold l E A n k0 k0 d hD 2 _ _ _ h am
def fm_X8_typeOfCall (n : Nat) (k0 : Nat) (x1 : Int32) (σ : hc_St) : Option (Int32 × hc_St) := rc_X8_isTold n k0 k0 3 [x1] σ
theorem okX8_typeOfCall (l : Launch) (E : hc_E) (A : Nat → Prop) (d : Nat) (n : Nat) (k0 : Nat) (hD : k0 + 1 * k0 + 9 ≤ d)  {x1 : Int32} {σ : hc_St} {r : (Int32 × hc_St)} (h : fm_X8_typeOfCall n k0 x1 σ = some r) (am : Nat → Nat → Nat) : hc_M l hc_V0 yX8_typeOfCall (ws_ yX8_typeOfCall cX8_typeOfCall 5 (some .int)) d E A [.ref (E.2.1 8), .int x1] am [] σ (.inl (some (.int r.1))) r.2 := okr_X8_isTold l E A n k0 k0 d hD 3 _ _ _ h am
def fm_X8_typeOfGiven (n : Nat) (k0 : Nat) (x1 : Int32) (x2 : Int32) (σ : hc_St) : Option (Int32 × hc_St) := rc_X8_isTold n k0 k0 4 [x1, x2] σ
theorem okX8_typeOfGiven (l : Launch) (E : hc_E) (A : Nat → Prop) (d : Nat) (n : Nat) (k0 : Nat) (hD : k0 + 1 * k0 + 9 ≤ d)  {x1 : Int32} {x2 : Int32} {σ : hc_St} {r : (Int32 × hc_St)} (h : fm_X8_typeOfGiven n k0 x1 x2 σ = some r) (am : Nat → Nat → Nat) : hc_M l hc_V0 yX8_typeOfGiven (ws_ yX8_typeOfGiven cX8_typeOfGiven 5 (some .int)) d E A [.ref (E.2.1 8), .int x1, .ref (E.2.2.2.1 (x2 : Int32).toNatClampNeg)] am [] σ (.inl (some (.int r.1))) r.2 := okr_X8_isTold l E A n k0 k0 d hD 4 _ _ _ h am
def fm_X8_argument (n : Nat) (k0 : Nat) (x1 : Int32) (x2 : Int32) (σ : hc_St) : Option (Int32 × hc_St) := rc_X8_isTold n k0 k0 5 [x1, x2] σ
theorem okX8_argument (l : Launch) (E : hc_E) (A : Nat → Prop) (d : Nat) (n : Nat) (k0 : Nat) (hD : k0 + 1 * k0 + 9 ≤ d)  {x1 : Int32} {x2 : Int32} {σ : hc_St} {r : (Int32 × hc_St)} (h : fm_X8_argument n k0 x1 x2 σ = some r) (am : Nat → Nat → Nat) : hc_M l hc_V0 yX8_argument (ws_ yX8_argument cX8_argument 5 none) d E A [.ref (E.2.1 8), .int x1, .int x2] am [] σ (.inl (none)) r.2 := okr_X8_isTold l E A n k0 k0 d hD 5 _ _ _ h am
def fm_X8_typeOfOwn (n : Nat) (k0 : Nat) (x1 : Int32) (x2 : Int32) (σ : hc_St) : Option (Int32 × hc_St) := rc_X8_isTold n k0 k0 6 [x1, x2] σ
theorem okX8_typeOfOwn (l : Launch) (E : hc_E) (A : Nat → Prop) (d : Nat) (n : Nat) (k0 : Nat) (hD : k0 + 1 * k0 + 9 ≤ d)  {x1 : Int32} {x2 : Int32} {σ : hc_St} {r : (Int32 × hc_St)} (h : fm_X8_typeOfOwn n k0 x1 x2 σ = some r) (am : Nat → Nat → Nat) : hc_M l hc_V0 yX8_typeOfOwn (ws_ yX8_typeOfOwn cX8_typeOfOwn 7 (some .int)) d E A [.ref (E.2.1 8), .int x1, .int x2] am [] σ (.inl (some (.int r.1))) r.2 := okr_X8_isTold l E A n k0 k0 d hD 6 _ _ _ h am
def fm_X8_typeOfIndex (n : Nat) (k0 : Nat) (x1 : Int32) (σ : hc_St) : Option (Int32 × hc_St) := rc_X8_isTold n k0 k0 7 [x1] σ
theorem okX8_typeOfIndex (l : Launch) (E : hc_E) (A : Nat → Prop) (d : Nat) (n : Nat) (k0 : Nat) (hD : k0 + 1 * k0 + 9 ≤ d)  {x1 : Int32} {σ : hc_St} {r : (Int32 × hc_St)} (h : fm_X8_typeOfIndex n k0 x1 σ = some r) (am : Nat → Nat → Nat) : hc_M l hc_V0 yX8_typeOfIndex (ws_ yX8_typeOfIndex cX8_typeOfIndex 3 (some .int)) d E A [.ref (E.2.1 8), .int x1] am [] σ (.inl (some (.int r.1))) r.2 := okr_X8_isTold l E A n k0 k0 d hD 7 _ _ _ h am
def fm_X8_target (n : Nat) (k0 : Nat) (x1 : Int32) (σ : hc_St) : Option (Int32 × hc_St) := rc_X8_isTold n k0 k0 8 [x1] σ
theorem okX8_target (l : Launch) (E : hc_E) (A : Nat → Prop) (d : Nat) (n : Nat) (k0 : Nat) (hD : k0 + 1 * k0 + 9 ≤ d)  {x1 : Int32} {σ : hc_St} {r : (Int32 × hc_St)} (h : fm_X8_target n k0 x1 σ = some r) (am : Nat → Nat → Nat) : hc_M l hc_V0 yX8_target (ws_ yX8_target cX8_target 5 none) d E A [.ref (E.2.1 8), .int x1] am [] σ (.inl (none)) r.2 := okr_X8_isTold l E A n k0 k0 d hD 8 _ _ _ h am
/-- HomeCompiler$Nodes.setValue(II)V -/
def fm_X6_setValue  (x1 : Int32) (x2 : Int32) (σ : hc_St) : Option hc_St := hk (inb x1 (gL σ 6 2)) <| hl (pC σ 6 2 x1 x2) fun σ2 => some σ2
set_option maxRecDepth 20000 in
set_option maxHeartbeats 4000000 in
theorem okX6_setValue (l : Launch) (E : hc_E) (A : Nat → Prop) (d : Nat)  (hD : 1 ≤ d) {x1 : Int32} {x2 : Int32} {σ : hc_St} {r : hc_St} (h : fm_X6_setValue  x1 x2 σ = some r) (am : Nat → Nat → Nat) : hc_M l hc_V0 yX6_setValue (ws_ yX6_setValue cX6_setValue 3 none) d E A [.ref (E.2.1 6), .int x1, .int x2] am [] σ (.inl none) r := by
  have hd1 : 1 ≤ d := by omega
  refine hc_enter2 (own := RX6) [(0, .ref (E.2.1 6)), (1, .int x1), (2, .int x2)] pl_X6 rfl hc_V0_st hc_G0_nd rfl (Nat.le_of_ble_eq_true rfl) (fun X hC hem => ?_)
  unfold fm_X6_setValue at h
  refine hr_aload_n hC dX6_setValue_0 rfl ?_
  refine hr_gA hC F6_2 rfl dX6_setValue_1 q527 ?_
  refine hr_iload_n hC dX6_setValue_4 rfl ?_
  refine hr_iload_n hC dX6_setValue_5 rfl ?_
  obtain ⟨c1, h⟩ := hk_ok h
  obtain ⟨σ2, hσ2, h⟩ := hl_ok h
  refine hs_iast hC A6_2 c1 dX6_setValue_6 ?_
  rw [← hσ2]
  obtain rfl := Option.some.inj h
  exact hr_vret hC dX6_setValue_7
/-- HomeCompiler$Checker.constant(I)Z -/
def fm_X8_constant (n : Nat) (k0 : Nat) (x1 : Int32) (σ : hc_St) : Option (Int32 × hc_St) := Option.bind (fm_X6_first x1 σ) fun r1 => Option.bind (fm_X8_isTold n k0 r1 σ) fun r5 => hl (α := Int32) ((if r5.1 = 0 then 0 else (gI r5.2 8 15))) fun v11 => Option.bind (fm_X6_setValue x1 v11 r5.2) fun r12 => hk (hb01 r5.1) <| some (r5.1, r12)
set_option maxRecDepth 20000 in
set_option maxHeartbeats 4000000 in
theorem okX8_constant (l : Launch) (E : hc_E) (A : Nat → Prop) (d : Nat) (n : Nat) (k0 : Nat) (hD : 2 * k0 + 10 ≤ d) {x1 : Int32} {σ : hc_St} {r : (Int32 × hc_St)} (h : fm_X8_constant n k0 x1 σ = some r) (am : Nat → Nat → Nat) : hc_M l hc_V0 yX8_constant (ws_ yX8_constant cX8_constant 3 (some .boolean)) d E A [.ref (E.2.1 8), .int x1] am [] σ (.inl (some (.int r.1))) r.2 := by
  have hd1 : 1 ≤ d := by omega
  have hd8 : 9 ≤ d := by omega
  refine hc_enter2 (own := RX8) [(0, .ref (E.2.1 8)), (1, .int x1)] pl_X8 rfl hc_V0_st hc_G0_nd rfl (Nat.le_of_ble_eq_true rfl) (fun X hC hem => ?_)
  unfold fm_X8_constant at h
  refine hr_aload_n hC dX8_constant_0 rfl ?_
  refine hr_aload_n hC dX8_constant_1 rfl ?_
  refine hr_gO 6 hC F8_0 rfl dX8_constant_2 q661 ?_
  refine hr_iload_n hC dX8_constant_5 rfl ?_
  obtain ⟨r1, e2, h⟩ := hx_bind h
  refine hs_callV0 hC 6 [_] _ dX8_constant_6 q1575 q1576 q1577 q320 q1578 np_X6 rfl OB_6 pd_X6_first (Nat.le_of_ble_eq_true rfl) hd1 (okX6_first l E A (d - 1)  (by omega)  e2 am) rfl ?_
  obtain ⟨r5, e6, h⟩ := hx_bind h
  refine hs_callV0 hC 8 [_] _ dX8_constant_9 q1614 q1616 qs59 q322 q1617 np_X8 rfl OB_8 pd_X8_isTold (Nat.le_of_ble_eq_true rfl) hd1 (okX8_isTold l E A (d - 1) n k0 (by omega)  e6 am) rfl ?_
  refine hr_istore_n hC dX8_constant_12 (by decide) ?_
  refine hr_aload_n hC dX8_constant_13 rfl ?_
  refine hr_gO 6 hC F8_0 rfl dX8_constant_14 q661 ?_
  refine hr_iload_n hC dX8_constant_17 rfl ?_
  refine hr_iload_n hC dX8_constant_18 rfl ?_
  obtain ⟨v11, hv11, h⟩ := hl_ok h
  have J17 : ∀ w18 : Int32, (if r5.1 = 0 then 0 else (gI r5.2 8 15)) = w18 → hc_At hc_V0 E 3 X 30 [(2, .int r5.1)] [.int w18, .int x1, .ref (E.2.1 6)] r5.2 am [] := by
    intro w18 hw18
    obtain rfl := hv11.trans hw18
    obtain ⟨r12, e13, h⟩ := hx_bind h
    refine hs_callV0 hC 6 [_, _] _ dX8_constant_30 q1722 q1723 q1724 q320 q1725 np_X6 rfl OB_6 pd_X6_setValue (Nat.le_of_ble_eq_true rfl) hd1 (okX6_setValue l E A (d - 1)  (by omega)  e13 am) rfl ?_
    refine hr_iload_n hC dX8_constant_33 rfl ?_
    obtain ⟨c16, h⟩ := hk_ok h
    obtain rfl := Option.some.inj h
    exact hr_zret hC (hb01_n c16) dX8_constant_34
  refine hr_if_eq (x := _) hC 29 dX8_constant_19 (by decide) (fun c19 => ?_) (fun c19 => ?_)
  · refine hr_iconst (v := 0) hC dX8_constant_29 rfl ?_
    exact hr_sub _ rfl (J17 _ (by first | (rw [if_pos c19]; done) | (simp only [if_pos c19]; done) | rfl))
  · refine hr_aload_n hC dX8_constant_22 rfl ?_
    refine hr_gI hC F8_15 dX8_constant_23 q676 ?_
    refine hr_goto hC 30 dX8_constant_26 (by decide) ?_
    exact hr_sub _ rfl (J17 _ (by first | (rw [if_neg c19]; done) | (simp only [if_neg c19]; done) | rfl))
/-- HomeCompiler$Checker.declare(IIII)V -/
def fm_X8_declare  (x1 : Int32) (x2 : Int32) (x3 : Int32) (x4 : Int32) (σ : hc_St) : Option hc_St := Option.bind (fm_X10_isHere x1 σ) fun r1 => Option.bind (α := hc_St) (if r1 = 0 then (some (σ)) else (Option.bind (fm_X9_say 1 x4 σ) fun r11 => some (r11))) fun r7 => Option.bind (fm_X10_add x1 x2 x3 r7) fun r15 => some r15
set_option maxRecDepth 20000 in
set_option maxHeartbeats 4000000 in
theorem okX8_declare (l : Launch) (E : hc_E) (A : Nat → Prop) (d : Nat)  (hD : 6 ≤ d) {x1 : Int32} {x2 : Int32} {x3 : Int32} {x4 : Int32} {σ : hc_St} {r : hc_St} (h : fm_X8_declare  x1 x2 x3 x4 σ = some r) (am : Nat → Nat → Nat) : hc_M l hc_V0 yX8_declare (ws_ yX8_declare cX8_declare 5 none) d E A [.ref (E.2.1 8), .int x1, .int x2, .int x3, .int x4] am [10] σ (.inl none) r := by
  have hd1 : 1 ≤ d := by omega
  refine hc_enter2 (own := RX8) [(0, .ref (E.2.1 8)), (1, .int x1), (2, .int x2), (3, .int x3), (4, .int x4)] pl_X8 rfl hc_V0_st hc_G0_nd rfl (Nat.le_of_ble_eq_true rfl) (fun X hC hem => ?_)
  unfold fm_X8_declare at h
  refine hr_aload_n hC dX8_declare_0 rfl ?_
  refine hr_gO 10 hC F8_4 rfl dX8_declare_1 q665 ?_
  refine hr_iload_n hC dX8_declare_4 rfl ?_
  obtain ⟨r1, e2, h⟩ := hx_bind h
  refine hs_callV0 hC 10 [_] _ dX8_declare_5 q1589 q1590 q1591 q324 q1592 np_X10 rfl OB_10 pd_X10_isHere (Nat.le_of_ble_eq_true rfl) hd1 (okX10_isHere l E A (d - 1)  (by omega)  e2 am) rfl ?_
  obtain ⟨r7, e8, h⟩ := hx_bind h
  have J9 : hc_At hc_V0 E 5 X 21 [(0, .ref (E.2.1 8)), (1, .int x1), (2, .int x2), (3, .int x3)] [] r7 am [] := by
    refine hr_aload_n hC dX8_declare_21 rfl ?_
    refine hr_gO 10 hC F8_4 rfl dX8_declare_22 q665 ?_
    refine hr_iload_n hC dX8_declare_25 rfl ?_
    refine hr_iload_n hC dX8_declare_26 rfl ?_
    refine hr_iload_n hC dX8_declare_27 rfl ?_
    obtain ⟨r15, e16, h⟩ := hx_bind h
    refine hs_callV hC 10 [_, _, _] _ dX8_declare_28 q1567 q1568 q1569 q324 q1570 np_X10 rfl OB_10 pd_X10_add (Nat.le_of_ble_eq_true rfl) hd1 (okX10_add l E A (d - 1)  (by omega)  e16 am) (hc_rb rfl) rfl (fun am17 ha18 => ?_)
    obtain rfl := Option.some.inj h
    exact hr_vret hC dX8_declare_31
  clear h
  have h := e8
  refine hr_if_eq (x := _) hC 21 dX8_declare_8 (by decide) (fun c6 => ?_) (fun c6 => ?_)
  · rw [if_pos c6] at h
    obtain rfl := Option.some.inj h
    exact hr_sub _ rfl (J9)
  · rw [if_neg c6] at h
    refine hr_aload_n hC dX8_declare_11 rfl ?_
    refine hr_gO 9 hC F8_3 rfl dX8_declare_12 q664 ?_
    refine hr_iconst (v := 1) hC dX8_declare_15 rfl ?_
    refine hr_iload hC dX8_declare_16 rfl ?_
    obtain ⟨r11, e12, h⟩ := hx_bind h
    refine hs_callV0 hC 9 [_, _] _ dX8_declare_18 q1597 q1598 q1599 q323 q1600 np_X9 rfl OB_9 pd_X9_say (Nat.le_of_ble_eq_true rfl) hd1 (okX9_say l E A (d - 1)  (by omega)  e12 am) rfl ?_
    obtain rfl := Option.some.inj h
    exact hr_sub _ rfl (J9)
def lp_X8_fill_65 (n : Nat) (k0 : Nat) : Nat → Int32 → Int32 → Int32 → hc_St → Option (hc_St)
  | 0, _, _, _, _ => none
  | m + 1, y1, y3, y4, σ => if y4 = (-1) then (some (σ)) else (Option.bind (fm_X8_constant n k0 y4 σ) fun r15 => Option.bind (fm_X6_next y4 r15.2) fun r19 => lp_X8_fill_65 n k0 m y1 y3 r19 r15.2)
/-- HomeCompiler$Checker.fill(III)V -/
def fm_X8_fill (n : Nat) (k0 : Nat) (x1 : Int32) (x2 : Int32) (x3 : Int32) (σ : hc_St) : Option hc_St := if x1 = (-1) then (some σ) else (Option.bind (fm_X6_kind x1 σ) fun r3 => if r3 = 9 then (Option.bind (α := hc_St) (if x2 = 0 then (Option.bind (fm_X6_place x1 σ) fun r52 => Option.bind (fm_X9_say 8 r52 σ) fun r56 => some (r56)) else (Option.bind (fm_X6_op x1 σ) fun r60 => if (r60 + 1) ≤ x3 then (some (σ)) else (Option.bind (fm_X6_place x1 σ) fun r66 => Option.bind (fm_X9_say 8 r66 σ) fun r70 => some (r70)))) fun r48 => some r48) else (Option.bind (fm_X6_first x1 σ) fun r9 => Option.bind (lp_X8_fill_65 n k0 n x1 x3 r9 σ) fun r23 => Option.bind (fm_X6_children n x1 r23) fun r28 => Option.bind (α := hc_St) (if r28 ≤ x3 then (some (r23)) else (Option.bind (fm_X6_place x1 r23) fun r38 => Option.bind (fm_X9_say 8 r38 r23) fun r42 => some (r42))) fun r34 => some r34))
set_option maxRecDepth 20000 in
set_option maxHeartbeats 4000000 in
theorem ll_X8_fill_65 {l : Launch} {E : hc_E} {A : Nat → Prop} {am : Nat → Nat → Nat} {d : Nat} {X : hc_X} (n : Nat) (k0 : Nat) (hD : 2 * k0 + 11 ≤ d) (hem : X.2.2.2.2.2.2.2.2.2.1.exceptionTable.isEmpty = true) {oc : hc_Oc} {σe : hc_St} (hC : hc_C hc_V0 E cX8_fill 5 RX8 none d oc σe (l, A, am, []) X) : ∀ (m : Nat) (σ : hc_St) (y1 : Int32) (y3 : Int32) (y4 : Int32) (rl : hc_St) (am1 : Nat → Nat → Nat), lp_X8_fill_65 n k0 m y1 y3 y4 σ = some rl → (hc_At hc_V0 E 5 X 92 [(0, .ref (E.2.1 8)), (1, .int y1), (3, .int y3)] [] rl am1 []) → hc_At hc_V0 E 5 X 65 [(0, .ref (E.2.1 8)), (1, .int y1), (3, .int y3), (4, .int y4)] [] σ am1 [] := by
  have hd1 : 1 ≤ d := by omega
  have hd8 : 9 ≤ d := by omega
  intro m
  induction m with
  | zero =>
    intro σ y1 y3 y4 rl am1 h
    cases h
  | succ m ih =>
    intro σ y1 y3 y4 rl am1 h JX
    rw [lp_X8_fill_65] at h
    refine hr_iload hC dX8_fill_65 rfl ?_
    refine hr_iconst (v := (-1)) hC dX8_fill_67 rfl ?_
    refine hr_icmp_eq (x := _) hC 92 dX8_fill_68 (by decide) (fun c14 => ?_) (fun c14 => ?_)
    · rw [if_pos c14] at h
      obtain rfl := Option.some.inj h
      exact hr_sub _ rfl (JX)
    · rw [if_neg c14] at h
      refine hr_aload_n hC dX8_fill_71 rfl ?_
      refine hr_iload hC dX8_fill_72 rfl ?_
      obtain ⟨r15, e16, h⟩ := hx_bind h
      refine hs_callV0 hC 8 [_] _ dX8_fill_74 q1610 q1612 qs58 q322 q1613 np_X8 rfl OB_8 pd_X8_constant (Nat.le_of_ble_eq_true rfl) hd1 (okX8_constant l E A (d - 1) n k0 (by omega)  e16 am1) rfl ?_
      refine hr_pop hC dX8_fill_77 rfl ?_
      refine hr_aload_n hC dX8_fill_78 rfl ?_
      refine hr_gO 6 hC F8_0 rfl dX8_fill_79 q661 ?_
      refine hr_iload hC dX8_fill_82 rfl ?_
      obtain ⟨r19, e20, h⟩ := hx_bind h
      refine hs_callV0 hC 6 [_] _ dX8_fill_84 q1602 q1603 q1604 q320 q1605 np_X6 rfl OB_6 pd_X6_next (Nat.le_of_ble_eq_true rfl) hd1 (okX6_next l E A (d - 1)  (by omega)  e20 am1) rfl ?_
      refine hr_istore hC dX8_fill_87 (by decide) ?_
      refine hr_goto hC 65 dX8_fill_89 (by decide) ?_
      exact hr_sub _ rfl (ih _ _ _ _ _ am1 h JX)
set_option maxRecDepth 20000 in
set_option maxHeartbeats 4000000 in
theorem okX8_fill (l : Launch) (E : hc_E) (A : Nat → Prop) (d : Nat) (n : Nat) (k0 : Nat) (hD : 2 * k0 + 11 ≤ d) {x1 : Int32} {x2 : Int32} {x3 : Int32} {σ : hc_St} {r : hc_St} (h : fm_X8_fill n k0 x1 x2 x3 σ = some r) (am : Nat → Nat → Nat) : hc_M l hc_V0 yX8_fill (ws_ yX8_fill cX8_fill 5 none) d E A [.ref (E.2.1 8), .int x1, .int x2, .int x3] am [] σ (.inl none) r := by
  have hd1 : 1 ≤ d := by omega
  have hd8 : 9 ≤ d := by omega
  refine hc_enter2 (own := RX8) [(0, .ref (E.2.1 8)), (1, .int x1), (2, .int x2), (3, .int x3)] pl_X8 rfl hc_V0_st hc_G0_nd rfl (Nat.le_of_ble_eq_true rfl) (fun X hC hem => ?_)
  unfold fm_X8_fill at h
  refine hr_iload_n hC dX8_fill_0 rfl ?_
  refine hr_iconst (v := (-1)) hC dX8_fill_1 rfl ?_
  refine hr_icmp_ne (x := _) hC 6 dX8_fill_2 (by decide) (fun c2 => ?_) (fun c2 => ?_)
  · rw [if_neg c2] at h
    refine hr_aload_n hC dX8_fill_6 rfl ?_
    refine hr_gO 6 hC F8_0 rfl dX8_fill_7 q661 ?_
    refine hr_iload_n hC dX8_fill_10 rfl ?_
    obtain ⟨r3, e4, h⟩ := hx_bind h
    refine hs_callV0 hC 6 [_] _ dX8_fill_11 q1579 q1369 q1370 q320 q1371 np_X6 rfl OB_6 pd_X6_kind (Nat.le_of_ble_eq_true rfl) hd1 (okX6_kind l E A (d - 1)  (by omega)  e4 am) rfl ?_
    refine hr_bipush (v := 9) hC dX8_fill_14 rfl ?_
    refine hr_icmp_ne (x := _) hC 55 dX8_fill_16 (by decide) (fun c8 => ?_) (fun c8 => ?_)
    · rw [if_neg c8] at h
      refine hr_aload_n hC dX8_fill_55 rfl ?_
      refine hr_gO 6 hC F8_0 rfl dX8_fill_56 q661 ?_
      refine hr_iload_n hC dX8_fill_59 rfl ?_
      obtain ⟨r9, e10, h⟩ := hx_bind h
      refine hs_callV0 hC 6 [_] _ dX8_fill_60 q1575 q1576 q1577 q320 q1578 np_X6 rfl OB_6 pd_X6_first (Nat.le_of_ble_eq_true rfl) hd1 (okX6_first l E A (d - 1)  (by omega)  e10 am) rfl ?_
      refine hr_istore hC dX8_fill_63 (by decide) ?_
      obtain ⟨r23, e24, h⟩ := hx_bind h
      refine hr_sub _ rfl (ll_X8_fill_65 n k0 hD hem hC n _ _ _ _ _ am e24 ?_)
      refine hr_aload_n hC dX8_fill_92 rfl ?_
      refine hr_gO 6 hC F8_0 rfl dX8_fill_93 q661 ?_
      refine hr_iload_n hC dX8_fill_96 rfl ?_
      obtain ⟨r28, e29, h⟩ := hx_bind h
      refine hs_callV0 hC 6 [_] _ dX8_fill_97 q1674 q1675 q1676 q320 q1677 np_X6 rfl OB_6 pd_X6_children (Nat.le_of_ble_eq_true rfl) hd1 (okX6_children l E A (d - 1) n (by omega)  e29 am) rfl ?_
      refine hr_iload_n hC dX8_fill_100 rfl ?_
      obtain ⟨r34, e35, h⟩ := hx_bind h
      have J36 : hc_At hc_V0 E 5 X 121 [] [] r34 am [] := by
        obtain rfl := Option.some.inj h
        exact hr_vret hC dX8_fill_121
      clear h
      have h := e35
      refine hr_icmp_le (x := _) hC 121 dX8_fill_101 (by decide) (fun c33 => ?_) (fun c33 => ?_)
      · rw [if_pos c33] at h
        obtain rfl := Option.some.inj h
        exact hr_sub _ rfl (J36)
      · rw [if_neg c33] at h
        refine hr_aload_n hC dX8_fill_104 rfl ?_
        refine hr_gO 9 hC F8_3 rfl dX8_fill_105 q664 ?_
        refine hr_bipush (v := 8) hC dX8_fill_108 rfl ?_
        refine hr_aload_n hC dX8_fill_110 rfl ?_
        refine hr_gO 6 hC F8_0 rfl dX8_fill_111 q661 ?_
        refine hr_iload_n hC dX8_fill_114 rfl ?_
        obtain ⟨r38, e39, h⟩ := hx_bind h
        refine hs_callV0 hC 6 [_] _ dX8_fill_115 q1593 q1594 q1595 q320 q1596 np_X6 rfl OB_6 pd_X6_place (Nat.le_of_ble_eq_true rfl) hd1 (okX6_place l E A (d - 1)  (by omega)  e39 am) rfl ?_
        obtain ⟨r42, e43, h⟩ := hx_bind h
        refine hs_callV0 hC 9 [_, _] _ dX8_fill_118 q1597 q1598 q1599 q323 q1600 np_X9 rfl OB_9 pd_X9_say (Nat.le_of_ble_eq_true rfl) hd1 (okX9_say l E A (d - 1)  (by omega)  e43 am) rfl ?_
        obtain rfl := Option.some.inj h
        exact hr_sub _ rfl (J36)
    · rw [if_pos c8] at h
      refine hr_iload_n hC dX8_fill_19 rfl ?_
      obtain ⟨r48, e49, h⟩ := hx_bind h
      have J50 : hc_At hc_V0 E 5 X 54 [] [] r48 am [] := by
        obtain rfl := Option.some.inj h
        exact hr_vret hC dX8_fill_54
      clear h
      have h := e49
      refine hr_if_eq (x := _) hC 37 dX8_fill_20 (by decide) (fun c47 => ?_) (fun c47 => ?_)
      · rw [if_pos c47] at h
        refine hr_aload_n hC dX8_fill_37 rfl ?_
        refine hr_gO 9 hC F8_3 rfl dX8_fill_38 q664 ?_
        refine hr_bipush (v := 8) hC dX8_fill_41 rfl ?_
        refine hr_aload_n hC dX8_fill_43 rfl ?_
        refine hr_gO 6 hC F8_0 rfl dX8_fill_44 q661 ?_
        refine hr_iload_n hC dX8_fill_47 rfl ?_
        obtain ⟨r52, e53, h⟩ := hx_bind h
        refine hs_callV0 hC 6 [_] _ dX8_fill_48 q1593 q1594 q1595 q320 q1596 np_X6 rfl OB_6 pd_X6_place (Nat.le_of_ble_eq_true rfl) hd1 (okX6_place l E A (d - 1)  (by omega)  e53 am) rfl ?_
        obtain ⟨r56, e57, h⟩ := hx_bind h
        refine hs_callV0 hC 9 [_, _] _ dX8_fill_51 q1597 q1598 q1599 q323 q1600 np_X9 rfl OB_9 pd_X9_say (Nat.le_of_ble_eq_true rfl) hd1 (okX9_say l E A (d - 1)  (by omega)  e57 am) rfl ?_
        obtain rfl := Option.some.inj h
        exact hr_sub _ rfl (J50)
      · rw [if_neg c47] at h
        refine hr_aload_n hC dX8_fill_23 rfl ?_
        refine hr_gO 6 hC F8_0 rfl dX8_fill_24 q661 ?_
        refine hr_iload_n hC dX8_fill_27 rfl ?_
        obtain ⟨r60, e61, h⟩ := hx_bind h
        refine hs_callV0 hC 6 [_] _ dX8_fill_28 q1638 q1639 q1640 q320 q1641 np_X6 rfl OB_6 pd_X6_op (Nat.le_of_ble_eq_true rfl) hd1 (okX6_op l E A (d - 1)  (by omega)  e61 am) rfl ?_
        refine hr_iconst (v := 1) hC dX8_fill_31 rfl ?_
        refine hr_iadd hC dX8_fill_32 ?_
        refine hr_iload_n hC dX8_fill_33 rfl ?_
        refine hr_icmp_le (x := _) hC 54 dX8_fill_34 (by decide) (fun c65 => ?_) (fun c65 => ?_)
        · rw [if_pos c65] at h
          obtain rfl := Option.some.inj h
          exact hr_sub _ rfl (J50)
        · rw [if_neg c65] at h
          refine hr_aload_n hC dX8_fill_37 rfl ?_
          refine hr_gO 9 hC F8_3 rfl dX8_fill_38 q664 ?_
          refine hr_bipush (v := 8) hC dX8_fill_41 rfl ?_
          refine hr_aload_n hC dX8_fill_43 rfl ?_
          refine hr_gO 6 hC F8_0 rfl dX8_fill_44 q661 ?_
          refine hr_iload_n hC dX8_fill_47 rfl ?_
          obtain ⟨r66, e67, h⟩ := hx_bind h
          refine hs_callV0 hC 6 [_] _ dX8_fill_48 q1593 q1594 q1595 q320 q1596 np_X6 rfl OB_6 pd_X6_place (Nat.le_of_ble_eq_true rfl) hd1 (okX6_place l E A (d - 1)  (by omega)  e67 am) rfl ?_
          obtain ⟨r70, e71, h⟩ := hx_bind h
          refine hs_callV0 hC 9 [_, _] _ dX8_fill_51 q1597 q1598 q1599 q323 q1600 np_X9 rfl OB_9 pd_X9_say (Nat.le_of_ble_eq_true rfl) hd1 (okX9_say l E A (d - 1)  (by omega)  e71 am) rfl ?_
          obtain rfl := Option.some.inj h
          exact hr_sub _ rfl (J50)
  · rw [if_pos c2] at h
    obtain rfl := Option.some.inj h
    exact hr_vret hC dX8_fill_5
/-- HomeCompiler$Checker.told(I)I -/
def fm_X8_told (n : Nat) (k0 : Nat) (x1 : Int32) (σ : hc_St) : Option (Int32 × hc_St) := Option.bind (fm_X6_first x1 σ) fun r1 => Option.bind (fm_X8_isTold n k0 r1 σ) fun r5 => hl (α := Int32) ((if r5.1 = 0 then 0 else (gI r5.2 8 15))) fun v11 => some (v11, r5.2)
set_option maxRecDepth 20000 in
set_option maxHeartbeats 4000000 in
theorem okX8_told (l : Launch) (E : hc_E) (A : Nat → Prop) (d : Nat) (n : Nat) (k0 : Nat) (hD : 2 * k0 + 10 ≤ d) {x1 : Int32} {σ : hc_St} {r : (Int32 × hc_St)} (h : fm_X8_told n k0 x1 σ = some r) (am : Nat → Nat → Nat) : hc_M l hc_V0 yX8_told (ws_ yX8_told cX8_told 2 (some .int)) d E A [.ref (E.2.1 8), .int x1] am [] σ (.inl (some (.int r.1))) r.2 := by
  have hd1 : 1 ≤ d := by omega
  have hd8 : 9 ≤ d := by omega
  refine hc_enter2 (own := RX8) [(0, .ref (E.2.1 8)), (1, .int x1)] pl_X8 rfl hc_V0_st hc_G0_nd rfl (Nat.le_of_ble_eq_true rfl) (fun X hC hem => ?_)
  unfold fm_X8_told at h
  refine hr_aload_n hC dX8_told_0 rfl ?_
  refine hr_aload_n hC dX8_told_1 rfl ?_
  refine hr_gO 6 hC F8_0 rfl dX8_told_2 q661 ?_
  refine hr_iload_n hC dX8_told_5 rfl ?_
  obtain ⟨r1, e2, h⟩ := hx_bind h
  refine hs_callV0 hC 6 [_] _ dX8_told_6 q1575 q1576 q1577 q320 q1578 np_X6 rfl OB_6 pd_X6_first (Nat.le_of_ble_eq_true rfl) hd1 (okX6_first l E A (d - 1)  (by omega)  e2 am) rfl ?_
  obtain ⟨r5, e6, h⟩ := hx_bind h
  refine hs_callV0 hC 8 [_] _ dX8_told_9 q1614 q1616 qs59 q322 q1617 np_X8 rfl OB_8 pd_X8_isTold (Nat.le_of_ble_eq_true rfl) hd1 (okX8_isTold l E A (d - 1) n k0 (by omega)  e6 am) rfl ?_
  obtain ⟨v11, hv11, h⟩ := hl_ok h
  have J12 : ∀ w13 : Int32, (if r5.1 = 0 then 0 else (gI r5.2 8 15)) = w13 → hc_At hc_V0 E 2 X 23 [] [.int w13] r5.2 am [] := by
    intro w13 hw13
    obtain rfl := hv11.trans hw13
    obtain rfl := Option.some.inj h
    exact hr_iret hC dX8_told_23
  refine hr_if_eq (x := _) hC 22 dX8_told_12 (by decide) (fun c14 => ?_) (fun c14 => ?_)
  · refine hr_iconst (v := 0) hC dX8_told_22 rfl ?_
    exact hr_sub _ rfl (J12 _ (by first | (rw [if_pos c14]; done) | (simp only [if_pos c14]; done) | rfl))
  · refine hr_aload_n hC dX8_told_15 rfl ?_
    refine hr_gI hC F8_15 dX8_told_16 q676 ?_
    refine hr_goto hC 23 dX8_told_19 (by decide) ?_
    exact hr_sub _ rfl (J12 _ (by first | (rw [if_neg c14]; done) | (simp only [if_neg c14]; done) | rfl))
/-- HomeCompiler$Variables.words(I)I -/
def fm_X11_words  (x1 : Int32) (σ : hc_St) : Option Int32 := hk (inb x1 (gL σ 11 1)) <| Option.bind (α := Int32) (if (gC σ 11 1 x1) = 0 then (some (1)) else (if (gC σ 11 1 x1) = (-1) then (some (2)) else (hk (inb x1 (gL σ 11 0)) <| if (gC σ 11 0 x1) = 1 then (some ((((((gC σ 11 1 x1)) + 3)) / 4))) else (some ((gC σ 11 1 x1)))))) fun r4 => some r4
set_option maxRecDepth 20000 in
set_option maxHeartbeats 4000000 in
theorem okX11_words (l : Launch) (E : hc_E) (A : Nat → Prop) (d : Nat)  (hD : 1 ≤ d) {x1 : Int32} {σ : hc_St} {r : Int32} (h : fm_X11_words  x1 σ = some r) (am : Nat → Nat → Nat) : hc_M l hc_V0 yX11_words (ws_ yX11_words cX11_words 3 (some .int)) d E A [.ref (E.2.1 11), .int x1] am [] σ (.inl (some (.int r))) σ := by
  have hd1 : 1 ≤ d := by omega
  refine hc_enter2 (own := RX11) [(0, .ref (E.2.1 11)), (1, .int x1)] pl_X11 rfl hc_V0_st hc_G0_nd rfl (Nat.le_of_ble_eq_true rfl) (fun X hC hem => ?_)
  unfold fm_X11_words at h
  refine hr_aload_n hC dX11_words_0 rfl ?_
  refine hr_gA hC F11_1 rfl dX11_words_1 q641 ?_
  refine hr_iload_n hC dX11_words_4 rfl ?_
  obtain ⟨c1, h⟩ := hk_ok h
  refine hs_iald hC A11_1 c1 dX11_words_5 ?_
  refine hr_istore_n hC dX11_words_6 (by decide) ?_
  refine hr_iload_n hC dX11_words_7 rfl ?_
  obtain ⟨r4, e5, h⟩ := hx_bind h
  have J6 : hc_At hc_V0 E 3 X 43 [] [.int r4] σ am [] := by
    obtain rfl := Option.some.inj h
    exact hr_iret hC dX11_words_43
  clear h
  have h := e5
  refine hr_if_ne (x := _) hC 15 dX11_words_8 (by decide) (fun c3 => ?_) (fun c3 => ?_)
  · rw [if_neg c3] at h
    refine hr_iload_n hC dX11_words_15 rfl ?_
    refine hr_iconst (v := (-1)) hC dX11_words_16 rfl ?_
    refine hr_icmp_ne (x := _) hC 24 dX11_words_17 (by decide) (fun c9 => ?_) (fun c9 => ?_)
    · rw [if_neg c9] at h
      refine hr_aload_n hC dX11_words_24 rfl ?_
      refine hr_gA hC F11_0 rfl dX11_words_25 q640 ?_
      refine hr_iload_n hC dX11_words_28 rfl ?_
      obtain ⟨c10, h⟩ := hk_ok h
      refine hs_iald hC A11_0 c10 dX11_words_29 ?_
      refine hr_iconst (v := 1) hC dX11_words_30 rfl ?_
      refine hr_icmp_ne (x := _) hC 42 dX11_words_31 (by decide) (fun c12 => ?_) (fun c12 => ?_)
      · rw [if_neg c12] at h
        refine hr_iload_n hC dX11_words_42 rfl ?_
        obtain rfl := Option.some.inj h
        exact hr_sub _ rfl (J6)
      · rw [if_pos c12] at h
        refine hr_iload_n hC dX11_words_34 rfl ?_
        refine hr_iconst (v := 3) hC dX11_words_35 rfl ?_
        refine hr_iadd hC dX11_words_36 ?_
        refine hr_iconst (v := 4) hC dX11_words_37 rfl ?_
        refine hr_idiv hC dX11_words_38 (by decide) ?_
        refine hr_goto hC 43 dX11_words_39 (by decide) ?_
        obtain rfl := Option.some.inj h
        exact hr_sub _ rfl (J6)
    · rw [if_pos c9] at h
      refine hr_iconst (v := 2) hC dX11_words_20 rfl ?_
      refine hr_goto hC 43 dX11_words_21 (by decide) ?_
      obtain rfl := Option.some.inj h
      exact hr_sub _ rfl (J6)
  · rw [if_pos c3] at h
    refine hr_iconst (v := 1) hC dX11_words_11 rfl ?_
    refine hr_goto hC 43 dX11_words_12 (by decide) ?_
    obtain rfl := Option.some.inj h
    exact hr_sub _ rfl (J6)
def lp_X11_sum_16 (n : Nat) : Nat → Int32 → Int32 → hc_St → Option (hc_St)
  | 0, _, _, _ => none
  | m + 1, y1, y2, σ => if y1 < (nI (gL σ 11 4)) then (some (σ)) else (hk (hlo (gL σ 11 4) σ) <| hl (hlg σ 11 4) fun σ6 => lp_X11_sum_16 n m y1 y2 σ6)
/-- HomeCompiler$Variables.sum(II)V -/
def fm_X11_sum (n : Nat) (x1 : Int32) (x2 : Int32) (σ : hc_St) : Option hc_St := if x1 = (-1) then (hl (pI σ 11 5 ((((gI σ 11 5)) + x2))) fun σ16 => some σ16) else (Option.bind (lp_X11_sum_16 n n x1 x2 σ) fun r8 => hk (inb x1 (gL r8 11 4)) <| hk (inb x1 (gL r8 11 4)) <| hl (pC r8 11 4 x1 ((((gC r8 11 4 x1)) + x2))) fun σ15 => some σ15)
set_option maxRecDepth 20000 in
set_option maxHeartbeats 4000000 in
theorem ll_X11_sum_16 {l : Launch} {E : hc_E} {A : Nat → Prop} {am : Nat → Nat → Nat} {d : Nat} {X : hc_X} (n : Nat) (hD : 5 ≤ d) (hem : X.2.2.2.2.2.2.2.2.2.1.exceptionTable.isEmpty = true) {oc : hc_Oc} {σe : hc_St} (hC : hc_C hc_V0 E cX11_sum 3 RX11 none d oc σe (l, A, am, [11]) X) : ∀ (m : Nat) (σ : hc_St) (y1 : Int32) (y2 : Int32) (rl : hc_St), lp_X11_sum_16 n m y1 y2 σ = some rl → (∀ am1, hc_At hc_V0 E 3 X 39 [(0, .ref (E.2.1 11)), (1, .int y1), (2, .int y2)] [] rl am1 []) → ∀ am1, hc_At hc_V0 E 3 X 16 [(0, .ref (E.2.1 11)), (1, .int y1), (2, .int y2)] [] σ am1 [] := by
  have hd1 : 1 ≤ d := by omega
  intro m
  induction m with
  | zero =>
    intro σ y1 y2 rl h
    cases h
  | succ m ih =>
    intro σ y1 y2 rl h JX am1
    rw [lp_X11_sum_16] at h
    refine hr_iload_n hC dX11_sum_16 rfl ?_
    refine hr_aload_n hC dX11_sum_17 rfl ?_
    refine hr_gA hC F11_4 rfl dX11_sum_18 q644 ?_
    refine hs_alen1 hC A11_4 dX11_sum_21 ?_
    refine hr_icmp_lt (x := _) hC 39 dX11_sum_22 (by decide) (fun c4 => ?_) (fun c4 => ?_)
    · rw [if_pos c4] at h
      obtain rfl := Option.some.inj h
      exact hr_sub _ rfl (JX am1)
    · rw [if_neg c4] at h
      refine hr_aload_n hC dX11_sum_25 rfl ?_
      refine hr_aload_n hC dX11_sum_26 rfl ?_
      refine hr_gA hC F11_4 rfl dX11_sum_27 q644 ?_
      obtain ⟨c5, h⟩ := hk_ok h
      obtain ⟨σ6, hσ6, h⟩ := hl_ok h
      refine hr_longer (okl_X11 l E A (d - 1) (by omega)) hC F11_4 rfl A11_4 PX11_4 (hc_mm rfl) c5 dX11_sum_30 q1752 dX11_sum_33 q644 pd_X11_longer q1753 q325 q1754 np_X11 (Nat.le_of_ble_eq_true rfl) hd1 (fun q7 => ?_)
      rw [← hσ6]
      refine hr_goto hC 16 dX11_sum_36 (by decide) ?_
      exact hr_sub _ rfl (ih _ _ _ _ h JX ((hc_up2 am1 11 4 q7)))
set_option maxRecDepth 20000 in
set_option maxHeartbeats 4000000 in
theorem okX11_sum (l : Launch) (E : hc_E) (A : Nat → Prop) (d : Nat) (n : Nat) (hD : 5 ≤ d) {x1 : Int32} {x2 : Int32} {σ : hc_St} {r : hc_St} (h : fm_X11_sum n x1 x2 σ = some r) (am : Nat → Nat → Nat) : hc_M l hc_V0 yX11_sum (ws_ yX11_sum cX11_sum 3 none) d E A [.ref (E.2.1 11), .int x1, .int x2] am [11] σ (.inl none) r := by
  have hd1 : 1 ≤ d := by omega
  refine hc_enter2 (own := RX11) [(0, .ref (E.2.1 11)), (1, .int x1), (2, .int x2)] pl_X11 rfl hc_V0_st hc_G0_nd rfl (Nat.le_of_ble_eq_true rfl) (fun X hC hem => ?_)
  unfold fm_X11_sum at h
  refine hr_iload_n hC dX11_sum_0 rfl ?_
  refine hr_iconst (v := (-1)) hC dX11_sum_1 rfl ?_
  refine hr_icmp_ne (x := _) hC 16 dX11_sum_2 (by decide) (fun c2 => ?_) (fun c2 => ?_)
  · rw [if_neg c2] at h
    obtain ⟨r8, e9, h⟩ := hx_bind h
    refine hr_sub _ rfl (ll_X11_sum_16 n hD hem hC n _ _ _ _ e9 (fun am12 => ?_) am)
    refine hr_aload_n hC dX11_sum_39 rfl ?_
    refine hr_gA hC F11_4 rfl dX11_sum_40 q644 ?_
    refine hr_iload_n hC dX11_sum_43 rfl ?_
    refine hr_dup2 hC dX11_sum_44 rfl rfl ?_
    obtain ⟨c13, h⟩ := hk_ok h
    refine hs_iald hC A11_4 c13 dX11_sum_45 ?_
    refine hr_iload_n hC dX11_sum_46 rfl ?_
    refine hr_iadd hC dX11_sum_47 ?_
    obtain ⟨c14, h⟩ := hk_ok h
    obtain ⟨σ15, hσ15, h⟩ := hl_ok h
    refine hs_iast hC A11_4 c14 dX11_sum_48 ?_
    rw [← hσ15]
    obtain rfl := Option.some.inj h
    exact hr_vret hC dX11_sum_49
  · rw [if_pos c2] at h
    refine hr_aload_n hC dX11_sum_5 rfl ?_
    refine hr_dup hC dX11_sum_6 rfl ?_
    refine hr_gI hC F11_5 dX11_sum_7 q645 ?_
    refine hr_iload_n hC dX11_sum_10 rfl ?_
    refine hr_iadd hC dX11_sum_11 ?_
    obtain ⟨σ16, hσ16, h⟩ := hl_ok h
    refine hr_pI hC F11_5 PX11_5 dX11_sum_12 q645 ?_
    rw [← hσ16]
    obtain rfl := Option.some.inj h
    exact hr_vret hC dX11_sum_15
/-- HomeCompiler$Variables.add(III)I -/
def fm_X11_add (n : Nat) (x1 : Int32) (x2 : Int32) (x3 : Int32) (σ : hc_St) : Option (Int32 × hc_St) := Option.bind (α := hc_St) (if (gI σ 11 3) = (nI (gL σ 11 0)) then (hk (hlo (gL σ 11 0) σ) <| hl (hlg σ 11 0) fun σ8 => hk (hlo (gL σ8 11 1) σ8) <| hl (hlg σ8 11 1) fun σ11 => hk (hlo (gL σ11 11 2) σ11) <| hl (hlg σ11 11 2) fun σ14 => some (σ14)) else (some (σ))) fun r3 => hk (inb ((gI r3 11 3)) (gL r3 11 0)) <| hl (pC r3 11 0 ((gI r3 11 3)) x1) fun σ18 => hk (inb ((gI σ18 11 3)) (gL σ18 11 1)) <| hl (pC σ18 11 1 ((gI σ18 11 3)) x2) fun σ20 => hk (inb ((gI σ20 11 3)) (gL σ20 11 2)) <| hl (pC σ20 11 2 ((gI σ20 11 3)) x3) fun σ22 => Option.bind (fm_X11_words ((gI σ22 11 3)) σ22) fun r23 => Option.bind (fm_X11_sum n x3 r23 σ22) fun r27 => hl (pI r27 11 3 ((((gI r27 11 3)) + 1))) fun σ31 => some ((gI r27 11 3), σ31)
set_option maxRecDepth 20000 in
set_option maxHeartbeats 4000000 in
theorem okX11_add (l : Launch) (E : hc_E) (A : Nat → Prop) (d : Nat) (n : Nat) (hD : 6 ≤ d) {x1 : Int32} {x2 : Int32} {x3 : Int32} {σ : hc_St} {r : (Int32 × hc_St)} (h : fm_X11_add n x1 x2 x3 σ = some r) (am : Nat → Nat → Nat) : hc_M l hc_V0 yX11_add (ws_ yX11_add cX11_add 4 (some .int)) d E A [.ref (E.2.1 11), .int x1, .int x2, .int x3] am [11] σ (.inl (some (.int r.1))) r.2 := by
  have hd1 : 1 ≤ d := by omega
  refine hc_enter2 (own := RX11) [(0, .ref (E.2.1 11)), (1, .int x1), (2, .int x2), (3, .int x3)] pl_X11 rfl hc_V0_st hc_G0_nd rfl (Nat.le_of_ble_eq_true rfl) (fun X hC hem => ?_)
  unfold fm_X11_add at h
  refine hr_aload_n hC dX11_add_0 rfl ?_
  refine hr_gI hC F11_3 dX11_add_1 q643 ?_
  refine hr_aload_n hC dX11_add_4 rfl ?_
  refine hr_gA hC F11_0 rfl dX11_add_5 q640 ?_
  refine hs_alen1 hC A11_0 dX11_add_8 ?_
  obtain ⟨r3, e4, h⟩ := hx_bind h
  have J5 : ∀ am16, hc_At hc_V0 E 4 X 45 [(0, .ref (E.2.1 11)), (1, .int x1), (2, .int x2), (3, .int x3)] [] r3 am16 [] := by
    intro am16
    refine hr_aload_n hC dX11_add_45 rfl ?_
    refine hr_gA hC F11_0 rfl dX11_add_46 q640 ?_
    refine hr_aload_n hC dX11_add_49 rfl ?_
    refine hr_gI hC F11_3 dX11_add_50 q643 ?_
    refine hr_iload_n hC dX11_add_53 rfl ?_
    obtain ⟨c17, h⟩ := hk_ok h
    obtain ⟨σ18, hσ18, h⟩ := hl_ok h
    refine hs_iast hC A11_0 c17 dX11_add_54 ?_
    rw [← hσ18]
    refine hr_aload_n hC dX11_add_55 rfl ?_
    refine hr_gA hC F11_1 rfl dX11_add_56 q641 ?_
    refine hr_aload_n hC dX11_add_59 rfl ?_
    refine hr_gI hC F11_3 dX11_add_60 q643 ?_
    refine hr_iload_n hC dX11_add_63 rfl ?_
    obtain ⟨c19, h⟩ := hk_ok h
    obtain ⟨σ20, hσ20, h⟩ := hl_ok h
    refine hs_iast hC A11_1 c19 dX11_add_64 ?_
    rw [← hσ20]
    refine hr_aload_n hC dX11_add_65 rfl ?_
    refine hr_gA hC F11_2 rfl dX11_add_66 q642 ?_
    refine hr_aload_n hC dX11_add_69 rfl ?_
    refine hr_gI hC F11_3 dX11_add_70 q643 ?_
    refine hr_iload_n hC dX11_add_73 rfl ?_
    obtain ⟨c21, h⟩ := hk_ok h
    obtain ⟨σ22, hσ22, h⟩ := hl_ok h
    refine hs_iast hC A11_2 c21 dX11_add_74 ?_
    rw [← hσ22]
    refine hr_aload_n hC dX11_add_75 rfl ?_
    refine hr_iload_n hC dX11_add_76 rfl ?_
    refine hr_aload_n hC dX11_add_77 rfl ?_
    refine hr_aload_n hC dX11_add_78 rfl ?_
    refine hr_gI hC F11_3 dX11_add_79 q643 ?_
    obtain ⟨r23, e24, h⟩ := hx_bind h
    refine hs_callV0 hC 11 [_] _ dX11_add_82 q1756 q1757 q1758 q325 q1759 np_X11 rfl OB_11 pd_X11_words (Nat.le_of_ble_eq_true rfl) hd1 (okX11_words l E A (d - 1)  (by omega)  e24 am16) rfl ?_
    obtain ⟨r27, e28, h⟩ := hx_bind h
    refine hs_callV hC 11 [_, _] _ dX11_add_85 q1760 q1762 qs80 q325 q1763 np_X11 rfl OB_11 pd_X11_sum (Nat.le_of_ble_eq_true rfl) hd1 (okX11_sum l E A (d - 1) n (by omega)  e28 am16) (hc_rb rfl) rfl (fun am29 ha30 => ?_)
    refine hr_aload_n hC dX11_add_88 rfl ?_
    refine hr_dup hC dX11_add_89 rfl ?_
    refine hr_gI hC F11_3 dX11_add_90 q643 ?_
    refine hr_dup_x1 hC dX11_add_93 rfl rfl ?_
    refine hr_iconst (v := 1) hC dX11_add_94 rfl ?_
    refine hr_iadd hC dX11_add_95 ?_
    obtain ⟨σ31, hσ31, h⟩ := hl_ok h
    refine hr_pI hC F11_3 PX11_3 dX11_add_96 q643 ?_
    rw [← hσ31]
    obtain rfl := Option.some.inj h
    exact hr_iret hC dX11_add_99
  clear h
  have h := e4
  refine hr_icmp_ne (x := _) hC 45 dX11_add_9 (by decide) (fun c2 => ?_) (fun c2 => ?_)
  · rw [if_neg c2] at h
    obtain rfl := Option.some.inj h
    exact hr_sub _ rfl (J5 am)
  · rw [if_pos c2] at h
    refine hr_aload_n hC dX11_add_12 rfl ?_
    refine hr_aload_n hC dX11_add_13 rfl ?_
    refine hr_gA hC F11_0 rfl dX11_add_14 q640 ?_
    obtain ⟨c7, h⟩ := hk_ok h
    obtain ⟨σ8, hσ8, h⟩ := hl_ok h
    refine hr_longer (okl_X11 l E A (d - 1) (by omega)) hC F11_0 rfl A11_0 PX11_0 (hc_mm rfl) c7 dX11_add_17 q1752 dX11_add_20 q640 pd_X11_longer q1753 q325 q1754 np_X11 (Nat.le_of_ble_eq_true rfl) hd1 (fun q9 => ?_)
    rw [← hσ8]
    refine hr_aload_n hC dX11_add_23 rfl ?_
    refine hr_aload_n hC dX11_add_24 rfl ?_
    refine hr_gA hC F11_1 rfl dX11_add_25 q641 ?_
    obtain ⟨c10, h⟩ := hk_ok h
    obtain ⟨σ11, hσ11, h⟩ := hl_ok h
    refine hr_longer (okl_X11 l E A (d - 1) (by omega)) hC F11_1 rfl A11_1 PX11_1 (hc_mm rfl) c10 dX11_add_28 q1752 dX11_add_31 q641 pd_X11_longer q1753 q325 q1754 np_X11 (Nat.le_of_ble_eq_true rfl) hd1 (fun q12 => ?_)
    rw [← hσ11]
    refine hr_aload_n hC dX11_add_34 rfl ?_
    refine hr_aload_n hC dX11_add_35 rfl ?_
    refine hr_gA hC F11_2 rfl dX11_add_36 q642 ?_
    obtain ⟨c13, h⟩ := hk_ok h
    obtain ⟨σ14, hσ14, h⟩ := hl_ok h
    refine hr_longer (okl_X11 l E A (d - 1) (by omega)) hC F11_2 rfl A11_2 PX11_2 (hc_mm rfl) c13 dX11_add_39 q1752 dX11_add_42 q642 pd_X11_longer q1753 q325 q1754 np_X11 (Nat.le_of_ble_eq_true rfl) hd1 (fun q15 => ?_)
    rw [← hσ14]
    obtain rfl := Option.some.inj h
    exact hr_sub _ rfl (J5 ((hc_up2 (hc_up2 (hc_up2 am 11 0 q9) 11 1 q12) 11 2 q15)))
