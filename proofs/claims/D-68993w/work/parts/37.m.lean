set_option maxRecDepth 20000
def lp_X8_nameOf_10 (n : Nat) : Nat → Int32 → Int32 → Int32 → hc_St → Option (hc_St)
  | 0, _, _, _, _ => none
  | m + 1, y1, y2, y3, σ => hk (hsi y1) <| if (sLen y1) ≤ y3 then (some (σ)) else (hk (hsc y1 y3) <| Option.bind (fm_X4_add 12 ((sCh y1 y3)) σ) fun r9 => lp_X8_nameOf_10 n m y1 y2 ((y3 + 1)) r9)
/-- HomeCompiler$Checker.nameOf(Ljava/lang/String;)I -/
def fm_X8_nameOf (n : Nat) (x1 : Int32) (σ : hc_St) : Option (Int32 × hc_St) := Option.bind (fm_X4_size 12 σ) fun r1 => Option.bind (lp_X8_nameOf_10 n n x1 r1 0 σ) fun r13 => hk (hsi x1) <| Option.bind (fm_X3_of n 12 r1 ((sLen x1)) r13) fun r19 => Option.bind (fm_X4_cut 12 r1 r19.2) fun r23 => some (r19.1, r23)
set_option maxRecDepth 20000 in
set_option maxHeartbeats 4000000 in
theorem ll_X8_nameOf_10 {l : Launch} {E : hc_E} {A : Nat → Prop} {am : Nat → Nat → Nat} {d : Nat} {X : hc_X} (n : Nat) (hD : 9 ≤ d) (hem : X.2.2.2.2.2.2.2.2.2.1.exceptionTable.isEmpty = true) {oc : hc_Oc} {σe : hc_St} (hC : hc_C hc_V0 E cX8_nameOf 4 RX8 (some .int) d oc σe (l, A, am, [2, 3, 4, 12, 22]) X) : ∀ (m : Nat) (σ : hc_St) (y1 : Int32) (y2 : Int32) (y3 : Int32) (rl : hc_St), lp_X8_nameOf_10 n m y1 y2 y3 σ = some rl → (∀ am1, hc_At hc_V0 E 4 X 36 [(0, .ref (E.2.1 8)), (1, .ref (E.2.2.2.1 (y1 : Int32).toNatClampNeg)), (2, .int y2)] [] rl am1 []) → ∀ am1, hc_At hc_V0 E 4 X 10 [(0, .ref (E.2.1 8)), (1, .ref (E.2.2.2.1 (y1 : Int32).toNatClampNeg)), (2, .int y2), (3, .int y3)] [] σ am1 [] := by
  have hd1 : 1 ≤ d := by omega
  have hd8 : 9 ≤ d := by omega
  intro m
  induction m with
  | zero =>
    intro σ y1 y2 y3 rl h
    cases h
  | succ m ih =>
    intro σ y1 y2 y3 rl h JX am1
    rw [lp_X8_nameOf_10] at h
    refine hr_iload_n hC dX8_nameOf_10 rfl ?_
    refine hr_aload_n hC dX8_nameOf_11 rfl ?_
    obtain ⟨c5, h⟩ := hk_ok h
    refine hr_slen hC c5 dX8_nameOf_12 q1562 hd8 (Nat.le_of_ble_eq_true rfl) ?_
    refine hr_icmp_ge (x := _) hC 36 dX8_nameOf_15 (by decide) (fun c7 => ?_) (fun c7 => ?_)
    · rw [if_pos c7] at h
      obtain rfl := Option.some.inj h
      exact hr_sub _ rfl (JX am1)
    · rw [if_neg c7] at h
      refine hr_aload_n hC dX8_nameOf_18 rfl ?_
      refine hr_gO 12 hC F8_6 rfl dX8_nameOf_19 q667 ?_
      refine hr_aload_n hC dX8_nameOf_22 rfl ?_
      refine hr_iload_n hC dX8_nameOf_23 rfl ?_
      obtain ⟨c8, h⟩ := hk_ok h
      refine hr_schar hC c8 dX8_nameOf_24 q1563 hd8 (Nat.le_of_ble_eq_true rfl) ?_
      obtain ⟨r9, e10, h⟩ := hx_bind h
      refine hs_callV hC 12 [_] _ dX8_nameOf_27 q1564 q1187 q1188 q318 q1189 np_X4 rfl OB_12 pd_X4_add (Nat.le_of_ble_eq_true rfl) hd1 (okX4_add l E A (d - 1)  (by omega) (by unfold hc_by; decide) e10 am1) (hc_rb rfl) rfl (fun am11 ha12 => ?_)
      refine hr_iinc (v := y3 + 1) hC dX8_nameOf_30 rfl rfl (by decide) ?_
      refine hr_goto hC 10 dX8_nameOf_33 (by decide) ?_
      exact hr_sub _ rfl (ih _ _ _ _ _ h JX am11)
set_option maxRecDepth 20000 in
set_option maxHeartbeats 4000000 in
theorem okX8_nameOf (l : Launch) (E : hc_E) (A : Nat → Prop) (d : Nat) (n : Nat) (hD : 9 ≤ d) {x1 : Int32} {σ : hc_St} {r : (Int32 × hc_St)} (h : fm_X8_nameOf n x1 σ = some r) (am : Nat → Nat → Nat) : hc_M l hc_V0 yX8_nameOf (ws_ yX8_nameOf cX8_nameOf 4 (some .int)) d E A [.ref (E.2.1 8), .ref (E.2.2.2.1 (x1 : Int32).toNatClampNeg)] am [2, 3, 4, 12, 22] σ (.inl (some (.int r.1))) r.2 := by
  have hd1 : 1 ≤ d := by omega
  have hd8 : 9 ≤ d := by omega
  refine hc_enter2 (own := RX8) [(0, .ref (E.2.1 8)), (1, .ref (E.2.2.2.1 (x1 : Int32).toNatClampNeg))] pl_X8 rfl hc_V0_st hc_G0_nd rfl (Nat.le_of_ble_eq_true rfl) (fun X hC hem => ?_)
  unfold fm_X8_nameOf at h
  refine hr_aload_n hC dX8_nameOf_0 rfl ?_
  refine hr_gO 12 hC F8_6 rfl dX8_nameOf_1 q667 ?_
  obtain ⟨r1, e2, h⟩ := hx_bind h
  refine hs_callV0 hC 12 [] _ dX8_nameOf_4 q1561 q1068 q1069 q318 q1070 np_X4 rfl OB_12 pd_X4_size (Nat.le_of_ble_eq_true rfl) hd1 (okX4_size l E A (d - 1)  (by omega) (by unfold hc_by; decide) e2 am) rfl ?_
  refine hr_istore_n hC dX8_nameOf_7 (by decide) ?_
  refine hr_iconst (v := 0) hC dX8_nameOf_8 rfl ?_
  refine hr_istore_n hC dX8_nameOf_9 (by decide) ?_
  obtain ⟨r13, e14, h⟩ := hx_bind h
  refine hr_sub _ rfl (ll_X8_nameOf_10 n hD hem hC n _ _ _ _ _ e14 (fun am17 => ?_) am)
  refine hr_aload_n hC dX8_nameOf_36 rfl ?_
  refine hr_gO 2 hC F8_1 rfl dX8_nameOf_37 q662 ?_
  refine hr_aload_n hC dX8_nameOf_40 rfl ?_
  refine hr_gO 12 hC F8_6 rfl dX8_nameOf_41 q667 ?_
  refine hr_iload_n hC dX8_nameOf_44 rfl ?_
  refine hr_aload_n hC dX8_nameOf_45 rfl ?_
  obtain ⟨c18, h⟩ := hk_ok h
  refine hr_slen hC c18 dX8_nameOf_46 q1562 hd8 (Nat.le_of_ble_eq_true rfl) ?_
  obtain ⟨r19, e20, h⟩ := hx_bind h
  refine hs_callV hC 2 [_, _, _] _ dX8_nameOf_49 q1565 q1163 q1164 q317 q1165 np_X3 rfl OB_2 pd_X3_of (Nat.le_of_ble_eq_true rfl) hd1 (okX3_of l E A (d - 1) n (by omega) (by unfold hc_by; decide) e20 am17) (hc_rb rfl) rfl (fun am21 ha22 => ?_)
  refine hr_istore_n hC dX8_nameOf_52 (by decide) ?_
  refine hr_aload_n hC dX8_nameOf_53 rfl ?_
  refine hr_gO 12 hC F8_6 rfl dX8_nameOf_54 q667 ?_
  refine hr_iload_n hC dX8_nameOf_57 rfl ?_
  obtain ⟨r23, e24, h⟩ := hx_bind h
  refine hs_callV0 hC 12 [_] _ dX8_nameOf_58 q1566 q988 q989 q318 q990 np_X4 rfl OB_12 pd_X4_cut (Nat.le_of_ble_eq_true rfl) hd1 (okX4_cut l E A (d - 1)  (by omega) (by unfold hc_by; decide) e24 am21) rfl ?_
  refine hr_iload_n hC dX8_nameOf_61 rfl ?_
  obtain rfl := Option.some.inj h
  exact hr_iret hC dX8_nameOf_62
/-- HomeCompiler$Symbols.add(III)V -/
def fm_X10_add  (x1 : Int32) (x2 : Int32) (x3 : Int32) (σ : hc_St) : Option hc_St := Option.bind (α := hc_St) (if (gI σ 10 4) = (nI (gL σ 10 0)) then (hk (hlo (gL σ 10 0) σ) <| hl (hlg σ 10 0) fun σ8 => hk (hlo (gL σ8 10 1) σ8) <| hl (hlg σ8 10 1) fun σ11 => hk (hlo (gL σ11 10 2) σ11) <| hl (hlg σ11 10 2) fun σ14 => hk (hlo (gL σ14 10 3) σ14) <| hl (hlg σ14 10 3) fun σ17 => some (σ17)) else (some (σ))) fun r3 => hk (inb ((gI r3 10 4)) (gL r3 10 0)) <| hl (pC r3 10 0 ((gI r3 10 4)) x1) fun σ21 => hk (inb ((gI σ21 10 4)) (gL σ21 10 1)) <| hl (pC σ21 10 1 ((gI σ21 10 4)) x2) fun σ23 => hk (inb ((gI σ23 10 4)) (gL σ23 10 2)) <| hl (pC σ23 10 2 ((gI σ23 10 4)) x3) fun σ25 => hk (inb x1 (gL σ25 10 5)) <| hk (inb ((gI σ25 10 4)) (gL σ25 10 3)) <| hl (pC σ25 10 3 ((gI σ25 10 4)) ((gC σ25 10 5 x1))) fun σ28 => hk (inb x1 (gL σ28 10 5)) <| hl (pC σ28 10 5 x1 ((gI σ28 10 4))) fun σ30 => hl (pI σ30 10 4 ((((gI σ30 10 4)) + 1))) fun σ31 => some σ31
set_option maxRecDepth 20000 in
set_option maxHeartbeats 4000000 in
theorem okX10_add (l : Launch) (E : hc_E) (A : Nat → Prop) (d : Nat)  (hD : 5 ≤ d) {x1 : Int32} {x2 : Int32} {x3 : Int32} {σ : hc_St} {r : hc_St} (h : fm_X10_add  x1 x2 x3 σ = some r) (am : Nat → Nat → Nat) : hc_M l hc_V0 yX10_add (ws_ yX10_add cX10_add 4 none) d E A [.ref (E.2.1 10), .int x1, .int x2, .int x3] am [10] σ (.inl none) r := by
  have hd1 : 1 ≤ d := by omega
  refine hc_enter2 (own := RX10) [(0, .ref (E.2.1 10)), (1, .int x1), (2, .int x2), (3, .int x3)] pl_X10 rfl hc_V0_st hc_G0_nd rfl (Nat.le_of_ble_eq_true rfl) (fun X hC hem => ?_)
  unfold fm_X10_add at h
  refine hr_aload_n hC dX10_add_0 rfl ?_
  refine hr_gI hC F10_4 dX10_add_1 q613 ?_
  refine hr_aload_n hC dX10_add_4 rfl ?_
  refine hr_gA hC F10_0 rfl dX10_add_5 q609 ?_
  refine hs_alen1 hC A10_0 dX10_add_8 ?_
  obtain ⟨r3, e4, h⟩ := hx_bind h
  have J5 : ∀ am19, hc_At hc_V0 E 4 X 56 [(0, .ref (E.2.1 10)), (1, .int x1), (2, .int x2), (3, .int x3)] [] r3 am19 [] := by
    intro am19
    refine hr_aload_n hC dX10_add_56 rfl ?_
    refine hr_gA hC F10_0 rfl dX10_add_57 q609 ?_
    refine hr_aload_n hC dX10_add_60 rfl ?_
    refine hr_gI hC F10_4 dX10_add_61 q613 ?_
    refine hr_iload_n hC dX10_add_64 rfl ?_
    obtain ⟨c20, h⟩ := hk_ok h
    obtain ⟨σ21, hσ21, h⟩ := hl_ok h
    refine hs_iast hC A10_0 c20 dX10_add_65 ?_
    rw [← hσ21]
    refine hr_aload_n hC dX10_add_66 rfl ?_
    refine hr_gA hC F10_1 rfl dX10_add_67 q610 ?_
    refine hr_aload_n hC dX10_add_70 rfl ?_
    refine hr_gI hC F10_4 dX10_add_71 q613 ?_
    refine hr_iload_n hC dX10_add_74 rfl ?_
    obtain ⟨c22, h⟩ := hk_ok h
    obtain ⟨σ23, hσ23, h⟩ := hl_ok h
    refine hs_iast hC A10_1 c22 dX10_add_75 ?_
    rw [← hσ23]
    refine hr_aload_n hC dX10_add_76 rfl ?_
    refine hr_gA hC F10_2 rfl dX10_add_77 q611 ?_
    refine hr_aload_n hC dX10_add_80 rfl ?_
    refine hr_gI hC F10_4 dX10_add_81 q613 ?_
    refine hr_iload_n hC dX10_add_84 rfl ?_
    obtain ⟨c24, h⟩ := hk_ok h
    obtain ⟨σ25, hσ25, h⟩ := hl_ok h
    refine hs_iast hC A10_2 c24 dX10_add_85 ?_
    rw [← hσ25]
    refine hr_aload_n hC dX10_add_86 rfl ?_
    refine hr_gA hC F10_3 rfl dX10_add_87 q612 ?_
    refine hr_aload_n hC dX10_add_90 rfl ?_
    refine hr_gI hC F10_4 dX10_add_91 q613 ?_
    refine hr_aload_n hC dX10_add_94 rfl ?_
    refine hr_gA hC F10_5 rfl dX10_add_95 q614 ?_
    refine hr_iload_n hC dX10_add_98 rfl ?_
    obtain ⟨c26, h⟩ := hk_ok h
    refine hs_iald hC A10_5 c26 dX10_add_99 ?_
    obtain ⟨c27, h⟩ := hk_ok h
    obtain ⟨σ28, hσ28, h⟩ := hl_ok h
    refine hs_iast hC A10_3 c27 dX10_add_100 ?_
    rw [← hσ28]
    refine hr_aload_n hC dX10_add_101 rfl ?_
    refine hr_gA hC F10_5 rfl dX10_add_102 q614 ?_
    refine hr_iload_n hC dX10_add_105 rfl ?_
    refine hr_aload_n hC dX10_add_106 rfl ?_
    refine hr_gI hC F10_4 dX10_add_107 q613 ?_
    obtain ⟨c29, h⟩ := hk_ok h
    obtain ⟨σ30, hσ30, h⟩ := hl_ok h
    refine hs_iast hC A10_5 c29 dX10_add_110 ?_
    rw [← hσ30]
    refine hr_aload_n hC dX10_add_111 rfl ?_
    refine hr_dup hC dX10_add_112 rfl ?_
    refine hr_gI hC F10_4 dX10_add_113 q613 ?_
    refine hr_iconst (v := 1) hC dX10_add_116 rfl ?_
    refine hr_iadd hC dX10_add_117 ?_
    obtain ⟨σ31, hσ31, h⟩ := hl_ok h
    refine hr_pI hC F10_4 PX10_4 dX10_add_118 q613 ?_
    rw [← hσ31]
    obtain rfl := Option.some.inj h
    exact hr_vret hC dX10_add_121
  clear h
  have h := e4
  refine hr_icmp_ne (x := _) hC 56 dX10_add_9 (by decide) (fun c2 => ?_) (fun c2 => ?_)
  · rw [if_neg c2] at h
    obtain rfl := Option.some.inj h
    exact hr_sub _ rfl (J5 am)
  · rw [if_pos c2] at h
    refine hr_aload_n hC dX10_add_12 rfl ?_
    refine hr_aload_n hC dX10_add_13 rfl ?_
    refine hr_gA hC F10_0 rfl dX10_add_14 q609 ?_
    obtain ⟨c7, h⟩ := hk_ok h
    obtain ⟨σ8, hσ8, h⟩ := hl_ok h
    refine hr_longer (okl_X10 l E A (d - 1) (by omega)) hC F10_0 rfl A10_0 PX10_0 (hc_mm rfl) c7 dX10_add_17 q1571 dX10_add_20 q609 pd_X10_longer q1572 q324 q1573 np_X10 (Nat.le_of_ble_eq_true rfl) hd1 (fun q9 => ?_)
    rw [← hσ8]
    refine hr_aload_n hC dX10_add_23 rfl ?_
    refine hr_aload_n hC dX10_add_24 rfl ?_
    refine hr_gA hC F10_1 rfl dX10_add_25 q610 ?_
    obtain ⟨c10, h⟩ := hk_ok h
    obtain ⟨σ11, hσ11, h⟩ := hl_ok h
    refine hr_longer (okl_X10 l E A (d - 1) (by omega)) hC F10_1 rfl A10_1 PX10_1 (hc_mm rfl) c10 dX10_add_28 q1571 dX10_add_31 q610 pd_X10_longer q1572 q324 q1573 np_X10 (Nat.le_of_ble_eq_true rfl) hd1 (fun q12 => ?_)
    rw [← hσ11]
    refine hr_aload_n hC dX10_add_34 rfl ?_
    refine hr_aload_n hC dX10_add_35 rfl ?_
    refine hr_gA hC F10_2 rfl dX10_add_36 q611 ?_
    obtain ⟨c13, h⟩ := hk_ok h
    obtain ⟨σ14, hσ14, h⟩ := hl_ok h
    refine hr_longer (okl_X10 l E A (d - 1) (by omega)) hC F10_2 rfl A10_2 PX10_2 (hc_mm rfl) c13 dX10_add_39 q1571 dX10_add_42 q611 pd_X10_longer q1572 q324 q1573 np_X10 (Nat.le_of_ble_eq_true rfl) hd1 (fun q15 => ?_)
    rw [← hσ14]
    refine hr_aload_n hC dX10_add_45 rfl ?_
    refine hr_aload_n hC dX10_add_46 rfl ?_
    refine hr_gA hC F10_3 rfl dX10_add_47 q612 ?_
    obtain ⟨c16, h⟩ := hk_ok h
    obtain ⟨σ17, hσ17, h⟩ := hl_ok h
    refine hr_longer (okl_X10 l E A (d - 1) (by omega)) hC F10_3 rfl A10_3 PX10_3 (hc_mm rfl) c16 dX10_add_50 q1571 dX10_add_53 q612 pd_X10_longer q1572 q324 q1573 np_X10 (Nat.le_of_ble_eq_true rfl) hd1 (fun q18 => ?_)
    rw [← hσ17]
    obtain rfl := Option.some.inj h
    exact hr_sub _ rfl (J5 ((hc_up2 (hc_up2 (hc_up2 (hc_up2 am 10 0 q9) 10 1 q12) 10 2 q15) 10 3 q18)))
/-- HomeCompiler$Symbols.isHere(I)Z -/
def fm_X10_isHere  (x1 : Int32) (σ : hc_St) : Option Int32 := hk (inb x1 (gL σ 10 5)) <| hk (inb ((gI σ 10 7)) (gL σ 10 6)) <| hl (α := Int32) ((if (gC σ 10 5 x1) < (gC σ 10 6 ((gI σ 10 7))) then 0 else 1)) fun v5 => hk (hb01 v5) <| some v5
set_option maxRecDepth 20000 in
set_option maxHeartbeats 4000000 in
theorem okX10_isHere (l : Launch) (E : hc_E) (A : Nat → Prop) (d : Nat)  (hD : 1 ≤ d) {x1 : Int32} {σ : hc_St} {r : Int32} (h : fm_X10_isHere  x1 σ = some r) (am : Nat → Nat → Nat) : hc_M l hc_V0 yX10_isHere (ws_ yX10_isHere cX10_isHere 2 (some .boolean)) d E A [.ref (E.2.1 10), .int x1] am [] σ (.inl (some (.int r))) σ := by
  have hd1 : 1 ≤ d := by omega
  refine hc_enter2 (own := RX10) [(0, .ref (E.2.1 10)), (1, .int x1)] pl_X10 rfl hc_V0_st hc_G0_nd rfl (Nat.le_of_ble_eq_true rfl) (fun X hC hem => ?_)
  unfold fm_X10_isHere at h
  refine hr_aload_n hC dX10_isHere_0 rfl ?_
  refine hr_gA hC F10_5 rfl dX10_isHere_1 q614 ?_
  refine hr_iload_n hC dX10_isHere_4 rfl ?_
  obtain ⟨c1, h⟩ := hk_ok h
  refine hs_iald hC A10_5 c1 dX10_isHere_5 ?_
  refine hr_aload_n hC dX10_isHere_6 rfl ?_
  refine hr_gA hC F10_6 rfl dX10_isHere_7 q615 ?_
  refine hr_aload_n hC dX10_isHere_10 rfl ?_
  refine hr_gI hC F10_7 dX10_isHere_11 q616 ?_
  obtain ⟨c2, h⟩ := hk_ok h
  refine hs_iald hC A10_6 c2 dX10_isHere_14 ?_
  obtain ⟨v5, hv5, h⟩ := hl_ok h
  have J7 : ∀ w8 : Int32, (if (gC σ 10 5 x1) < (gC σ 10 6 ((gI σ 10 7))) then 0 else 1) = w8 → hc_At hc_V0 E 2 X 23 [] [.int w8] σ am [] := by
    intro w8 hw8
    obtain rfl := hv5.trans hw8
    obtain ⟨c6, h⟩ := hk_ok h
    obtain rfl := Option.some.inj h
    exact hr_zret hC (hb01_n c6) dX10_isHere_23
  refine hr_icmp_lt (x := _) hC 22 dX10_isHere_15 (by decide) (fun c9 => ?_) (fun c9 => ?_)
  · refine hr_iconst (v := 0) hC dX10_isHere_22 rfl ?_
    exact hr_sub _ rfl (J7 _ (by first | (rw [if_pos c9]; done) | (simp only [if_pos c9]; done) | rfl))
  · refine hr_iconst (v := 1) hC dX10_isHere_18 rfl ?_
    refine hr_goto hC 23 dX10_isHere_19 (by decide) ?_
    exact hr_sub _ rfl (J7 _ (by first | (rw [if_neg c9]; done) | (simp only [if_neg c9]; done) | rfl))
/-- HomeCompiler$Nodes.place(I)I -/
def fm_X6_place  (x1 : Int32) (σ : hc_St) : Option Int32 := hk (inb x1 (gL σ 6 4)) <| some ((gC σ 6 4 x1))
set_option maxRecDepth 20000 in
set_option maxHeartbeats 4000000 in
theorem okX6_place (l : Launch) (E : hc_E) (A : Nat → Prop) (d : Nat)  (hD : 1 ≤ d) {x1 : Int32} {σ : hc_St} {r : Int32} (h : fm_X6_place  x1 σ = some r) (am : Nat → Nat → Nat) : hc_M l hc_V0 yX6_place (ws_ yX6_place cX6_place 2 (some .int)) d E A [.ref (E.2.1 6), .int x1] am [] σ (.inl (some (.int r))) σ := by
  have hd1 : 1 ≤ d := by omega
  refine hc_enter2 (own := RX6) [(0, .ref (E.2.1 6)), (1, .int x1)] pl_X6 rfl hc_V0_st hc_G0_nd rfl (Nat.le_of_ble_eq_true rfl) (fun X hC hem => ?_)
  unfold fm_X6_place at h
  refine hr_aload_n hC dX6_place_0 rfl ?_
  refine hr_gA hC F6_4 rfl dX6_place_1 q529 ?_
  refine hr_iload_n hC dX6_place_4 rfl ?_
  obtain ⟨c1, h⟩ := hk_ok h
  refine hs_iald hC A6_4 c1 dX6_place_5 ?_
  obtain rfl := Option.some.inj h
  exact hr_iret hC dX6_place_6
/-- HomeCompiler$Wrong.say(II)V -/
def fm_X9_say  (x1 : Int32) (x2 : Int32) (σ : hc_St) : Option hc_St := hl (α := Int32) ((if (gI σ 9 0) = 0 then 1 else (if x2 < (gI σ 9 1) then 1 else (if x2 = (gI σ 9 1) then (if (gI σ 9 0) ≤ x1 then 0 else 1) else 0)))) fun v3 => hl (α := Int32) ((if v3 = 0 then (gI σ 9 0) else x1)) fun v6 => hl (pI σ 9 0 v6) fun σ7 => hl (α := Int32) ((if v3 = 0 then (gI σ7 9 1) else x2)) fun v10 => hl (pI σ7 9 1 v10) fun σ11 => some σ11
set_option maxRecDepth 20000 in
set_option maxHeartbeats 4000000 in
theorem okX9_say (l : Launch) (E : hc_E) (A : Nat → Prop) (d : Nat)  (hD : 1 ≤ d) {x1 : Int32} {x2 : Int32} {σ : hc_St} {r : hc_St} (h : fm_X9_say  x1 x2 σ = some r) (am : Nat → Nat → Nat) : hc_M l hc_V0 yX9_say (ws_ yX9_say cX9_say 4 none) d E A [.ref (E.2.1 9), .int x1, .int x2] am [] σ (.inl none) r := by
  have hd1 : 1 ≤ d := by omega
  refine hc_enter2 (own := RX9) [(0, .ref (E.2.1 9)), (1, .int x1), (2, .int x2)] pl_X9 rfl hc_V0_st hc_G0_nd rfl (Nat.le_of_ble_eq_true rfl) (fun X hC hem => ?_)
  unfold fm_X9_say at h
  refine hr_aload_n hC dX9_say_0 rfl ?_
  refine hr_gI hC F9_0 dX9_say_1 q596 ?_
  obtain ⟨v3, hv3, h⟩ := hl_ok h
  have J18 : ∀ w19 : Int32, (if (gI σ 9 0) = 0 then 1 else (if x2 < (gI σ 9 1) then 1 else (if x2 = (gI σ 9 1) then (if (gI σ 9 0) ≤ x1 then 0 else 1) else 0))) = w19 → hc_At hc_V0 E 4 X 36 [(0, .ref (E.2.1 9)), (1, .int x1), (2, .int x2)] [.int w19] σ am [] := by
    intro w19 hw19
    obtain rfl := hv3.trans hw19
    refine hr_istore_n hC dX9_say_36 (by decide) ?_
    refine hr_aload_n hC dX9_say_37 rfl ?_
    refine hr_iload_n hC dX9_say_38 rfl ?_
    obtain ⟨v6, hv6, h⟩ := hl_ok h
    have J15 : ∀ w16 : Int32, (if v3 = 0 then (gI σ 9 0) else x1) = w16 → hc_At hc_V0 E 4 X 50 [(0, .ref (E.2.1 9)), (2, .int x2), (3, .int v3)] [.int w16, .ref (E.2.1 9)] σ am [] := by
      intro w16 hw16
      obtain rfl := hv6.trans hw16
      obtain ⟨σ7, hσ7, h⟩ := hl_ok h
      refine hr_pI hC F9_0 PX9_0 dX9_say_50 q596 ?_
      rw [← hσ7]
      refine hr_aload_n hC dX9_say_53 rfl ?_
      refine hr_iload_n hC dX9_say_54 rfl ?_
      obtain ⟨v10, hv10, h⟩ := hl_ok h
      have J12 : ∀ w13 : Int32, (if v3 = 0 then (gI σ7 9 1) else x2) = w13 → hc_At hc_V0 E 4 X 66 [] [.int w13, .ref (E.2.1 9)] σ7 am [] := by
        intro w13 hw13
        obtain rfl := hv10.trans hw13
        obtain ⟨σ11, hσ11, h⟩ := hl_ok h
        refine hr_pI hC F9_1 PX9_1 dX9_say_66 q597 ?_
        rw [← hσ11]
        obtain rfl := Option.some.inj h
        exact hr_vret hC dX9_say_69
      refine hr_if_eq (x := _) hC 62 dX9_say_55 (by decide) (fun c14 => ?_) (fun c14 => ?_)
      · refine hr_aload_n hC dX9_say_62 rfl ?_
        refine hr_gI hC F9_1 dX9_say_63 q597 ?_
        exact hr_sub _ rfl (J12 _ (by first | (rw [if_pos c14]; done) | (simp only [if_pos c14]; done) | rfl))
      · refine hr_iload_n hC dX9_say_58 rfl ?_
        refine hr_goto hC 66 dX9_say_59 (by decide) ?_
        exact hr_sub _ rfl (J12 _ (by first | (rw [if_neg c14]; done) | (simp only [if_neg c14]; done) | rfl))
    refine hr_if_eq (x := _) hC 46 dX9_say_39 (by decide) (fun c17 => ?_) (fun c17 => ?_)
    · refine hr_aload_n hC dX9_say_46 rfl ?_
      refine hr_gI hC F9_0 dX9_say_47 q596 ?_
      exact hr_sub _ rfl (J15 _ (by first | (rw [if_pos c17]; done) | (simp only [if_pos c17]; done) | rfl))
    · refine hr_iload_n hC dX9_say_42 rfl ?_
      refine hr_goto hC 50 dX9_say_43 (by decide) ?_
      exact hr_sub _ rfl (J15 _ (by first | (rw [if_neg c17]; done) | (simp only [if_neg c17]; done) | rfl))
  refine hr_if_eq (x := _) hC 31 dX9_say_4 (by decide) (fun c20 => ?_) (fun c20 => ?_)
  · refine hr_iconst (v := 1) hC dX9_say_31 rfl ?_
    refine hr_goto hC 36 dX9_say_32 (by decide) ?_
    exact hr_sub _ rfl (J18 _ (by first | (rw [if_pos c20]; done) | (simp only [if_pos c20]; done) | rfl))
  · refine hr_iload_n hC dX9_say_7 rfl ?_
    refine hr_aload_n hC dX9_say_8 rfl ?_
    refine hr_gI hC F9_1 dX9_say_9 q597 ?_
    refine hr_icmp_lt (x := _) hC 31 dX9_say_12 (by decide) (fun c21 => ?_) (fun c21 => ?_)
    · refine hr_iconst (v := 1) hC dX9_say_31 rfl ?_
      refine hr_goto hC 36 dX9_say_32 (by decide) ?_
      exact hr_sub _ rfl (J18 _ (by first | (rw [if_neg c20, if_pos c21]; done) | (simp only [if_neg c20, if_pos c21]; done) | rfl))
    · refine hr_iload_n hC dX9_say_15 rfl ?_
      refine hr_aload_n hC dX9_say_16 rfl ?_
      refine hr_gI hC F9_1 dX9_say_17 q597 ?_
      refine hr_icmp_ne (x := _) hC 35 dX9_say_20 (by decide) (fun c22 => ?_) (fun c22 => ?_)
      · refine hr_iconst (v := 0) hC dX9_say_35 rfl ?_
        exact hr_sub _ rfl (J18 _ (by first | (rw [if_neg c20, if_neg c21, if_neg c22]; done) | (simp only [if_neg c20, if_neg c21, if_neg c22]; done) | rfl))
      · refine hr_iload_n hC dX9_say_23 rfl ?_
        refine hr_aload_n hC dX9_say_24 rfl ?_
        refine hr_gI hC F9_0 dX9_say_25 q596 ?_
        refine hr_icmp_ge (x := _) hC 35 dX9_say_28 (by decide) (fun c23 => ?_) (fun c23 => ?_)
        · refine hr_iconst (v := 0) hC dX9_say_35 rfl ?_
          exact hr_sub _ rfl (J18 _ (by first | (rw [if_neg c20, if_neg c21, if_pos c22, if_pos c23]; done) | (simp only [if_neg c20, if_neg c21, if_pos c22, if_pos c23]; done) | rfl))
        · refine hr_iconst (v := 1) hC dX9_say_31 rfl ?_
          refine hr_goto hC 36 dX9_say_32 (by decide) ?_
          exact hr_sub _ rfl (J18 _ (by first | (rw [if_neg c20, if_neg c21, if_pos c22, if_neg c23]; done) | (simp only [if_neg c20, if_neg c21, if_pos c22, if_neg c23]; done) | rfl))
/-- HomeCompiler$Checker.know(I)V -/
def fm_X8_know  (x1 : Int32) (σ : hc_St) : Option hc_St := Option.bind (α := hc_St) (if (gI σ 8 9) = (nI (gL σ 8 7)) then (hk (hna ((2 * ((gI σ 8 9)))) σ) <| hl (pU σ 1 ((2 * ((gI σ 8 9)))).toNatClampNeg) fun σ9 => hk (hcp ((gI σ9 8 9)) (gL σ9 8 7) (((2 * ((gI σ 8 9)))).toNatClampNeg)) <| hl (pA σ9 8 7 (((2 * ((gI σ 8 9)))).toNatClampNeg) (va_cpy (σ9.2.2.1 8 7) (fun _ => 0) 0 0 ((gI σ9 8 9)).toNatClampNeg)) fun σ11 => hk (hna ((2 * ((gI σ11 8 9)))) σ11) <| hl (pU σ11 1 ((2 * ((gI σ11 8 9)))).toNatClampNeg) fun σ14 => hl (pA σ14 8 8 (((2 * ((gI σ11 8 9)))).toNatClampNeg) (fun _ => 0)) fun σ15 => some (σ15)) else (some (σ))) fun r3 => hk (inb ((gI r3 8 9)) (gL r3 8 7)) <| hl (pC r3 8 7 ((gI r3 8 9)) x1) fun σ18 => Option.bind (fm_X6_value x1 σ18) fun r19 => Option.bind (fm_X10_isHere r19 σ18) fun r23 => Option.bind (α := hc_St) (if r23 = 0 then (Option.bind (fm_X6_value x1 σ18) fun r33 => Option.bind (fm_X10_add r33 2 ((15 + ((gI σ18 8 9)))) σ18) fun r37 => some (r37)) else (Option.bind (fm_X6_place x1 σ18) fun r41 => Option.bind (fm_X9_say 1 r41 σ18) fun r45 => some (r45))) fun r29 => Option.bind (fm_X6_setExtra x1 ((gI r29 8 9)) r29) fun r50 => hl (pI r50 8 9 ((((gI r50 8 9)) + 1))) fun σ54 => some σ54
set_option maxRecDepth 20000 in
set_option maxHeartbeats 4000000 in
theorem okX8_know (l : Launch) (E : hc_E) (A : Nat → Prop) (d : Nat)  (hD : 6 ≤ d) {x1 : Int32} {σ : hc_St} {r : hc_St} (h : fm_X8_know  x1 σ = some r) (am : Nat → Nat → Nat) : hc_M l hc_V0 yX8_know (ws_ yX8_know cX8_know 3 none) d E A [.ref (E.2.1 8), .int x1] am [8, 10] σ (.inl none) r := by
  have hd1 : 1 ≤ d := by omega
  refine hc_enter2 (own := RX8) [(0, .ref (E.2.1 8)), (1, .int x1)] pl_X8 rfl hc_V0_st hc_G0_nd rfl (Nat.le_of_ble_eq_true rfl) (fun X hC hem => ?_)
  unfold fm_X8_know at h
  refine hr_aload_n hC dX8_know_0 rfl ?_
  refine hr_gI hC F8_9 dX8_know_1 q670 ?_
  refine hr_aload_n hC dX8_know_4 rfl ?_
  refine hr_gA hC F8_7 rfl dX8_know_5 q668 ?_
  refine hs_alen1 hC A8_7 dX8_know_8 ?_
  obtain ⟨r3, e4, h⟩ := hx_bind h
  have J5 : ∀ am16, hc_At hc_V0 E 3 X 52 [(0, .ref (E.2.1 8)), (1, .int x1)] [] r3 am16 [] := by
    intro am16
    refine hr_aload_n hC dX8_know_52 rfl ?_
    refine hr_gA hC F8_7 rfl dX8_know_53 q668 ?_
    refine hr_aload_n hC dX8_know_56 rfl ?_
    refine hr_gI hC F8_9 dX8_know_57 q670 ?_
    refine hr_iload_n hC dX8_know_60 rfl ?_
    obtain ⟨c17, h⟩ := hk_ok h
    obtain ⟨σ18, hσ18, h⟩ := hl_ok h
    refine hs_iast hC A8_7 c17 dX8_know_61 ?_
    rw [← hσ18]
    refine hr_aload_n hC dX8_know_62 rfl ?_
    refine hr_gO 10 hC F8_4 rfl dX8_know_63 q665 ?_
    refine hr_aload_n hC dX8_know_66 rfl ?_
    refine hr_gO 6 hC F8_0 rfl dX8_know_67 q661 ?_
    refine hr_iload_n hC dX8_know_70 rfl ?_
    obtain ⟨r19, e20, h⟩ := hx_bind h
    refine hs_callV0 hC 6 [_] _ dX8_know_71 q1585 q1586 q1587 q320 q1588 np_X6 rfl OB_6 pd_X6_value (Nat.le_of_ble_eq_true rfl) hd1 (okX6_value l E A (d - 1)  (by omega)  e20 am16) rfl ?_
    obtain ⟨r23, e24, h⟩ := hx_bind h
    refine hs_callV0 hC 10 [_] _ dX8_know_74 q1589 q1590 q1591 q324 q1592 np_X10 rfl OB_10 pd_X10_isHere (Nat.le_of_ble_eq_true rfl) hd1 (okX10_isHere l E A (d - 1)  (by omega)  e24 am16) rfl ?_
    obtain ⟨r29, e30, h⟩ := hx_bind h
    have J31 : ∀ am49, hc_At hc_V0 E 3 X 122 [(0, .ref (E.2.1 8)), (1, .int x1)] [] r29 am49 [] := by
      intro am49
      refine hr_aload_n hC dX8_know_122 rfl ?_
      refine hr_gO 6 hC F8_0 rfl dX8_know_123 q661 ?_
      refine hr_iload_n hC dX8_know_126 rfl ?_
      refine hr_aload_n hC dX8_know_127 rfl ?_
      refine hr_gI hC F8_9 dX8_know_128 q670 ?_
      obtain ⟨r50, e51, h⟩ := hx_bind h
      refine hs_callV0 hC 6 [_, _] _ dX8_know_131 q1601 q1463 q1464 q320 q1465 np_X6 rfl OB_6 pd_X6_setExtra (Nat.le_of_ble_eq_true rfl) hd1 (okX6_setExtra l E A (d - 1)  (by omega)  e51 am49) rfl ?_
      refine hr_aload_n hC dX8_know_134 rfl ?_
      refine hr_dup hC dX8_know_135 rfl ?_
      refine hr_gI hC F8_9 dX8_know_136 q670 ?_
      refine hr_iconst (v := 1) hC dX8_know_139 rfl ?_
      refine hr_iadd hC dX8_know_140 ?_
      obtain ⟨σ54, hσ54, h⟩ := hl_ok h
      refine hr_pI hC F8_9 PX8_9 dX8_know_141 q670 ?_
      rw [← hσ54]
      obtain rfl := Option.some.inj h
      exact hr_vret hC dX8_know_144
    clear h
    have h := e30
    refine hr_if_eq (x := _) hC 99 dX8_know_77 (by decide) (fun c28 => ?_) (fun c28 => ?_)
    · rw [if_pos c28] at h
      refine hr_aload_n hC dX8_know_99 rfl ?_
      refine hr_gO 10 hC F8_4 rfl dX8_know_100 q665 ?_
      refine hr_aload_n hC dX8_know_103 rfl ?_
      refine hr_gO 6 hC F8_0 rfl dX8_know_104 q661 ?_
      refine hr_iload_n hC dX8_know_107 rfl ?_
      obtain ⟨r33, e34, h⟩ := hx_bind h
      refine hs_callV0 hC 6 [_] _ dX8_know_108 q1585 q1586 q1587 q320 q1588 np_X6 rfl OB_6 pd_X6_value (Nat.le_of_ble_eq_true rfl) hd1 (okX6_value l E A (d - 1)  (by omega)  e34 am16) rfl ?_
      refine hr_iconst (v := 2) hC dX8_know_111 rfl ?_
      refine hr_bipush (v := 15) hC dX8_know_112 rfl ?_
      refine hr_aload_n hC dX8_know_114 rfl ?_
      refine hr_gI hC F8_9 dX8_know_115 q670 ?_
      refine hr_iadd hC dX8_know_118 ?_
      obtain ⟨r37, e38, h⟩ := hx_bind h
      refine hs_callV hC 10 [_, _, _] _ dX8_know_119 q1567 q1568 q1569 q324 q1570 np_X10 rfl OB_10 pd_X10_add (Nat.le_of_ble_eq_true rfl) hd1 (okX10_add l E A (d - 1)  (by omega)  e38 am16) (hc_rb rfl) rfl (fun am39 ha40 => ?_)
      obtain rfl := Option.some.inj h
      exact hr_sub _ rfl (J31 am39)
    · rw [if_neg c28] at h
      refine hr_aload_n hC dX8_know_80 rfl ?_
      refine hr_gO 9 hC F8_3 rfl dX8_know_81 q664 ?_
      refine hr_iconst (v := 1) hC dX8_know_84 rfl ?_
      refine hr_aload_n hC dX8_know_85 rfl ?_
      refine hr_gO 6 hC F8_0 rfl dX8_know_86 q661 ?_
      refine hr_iload_n hC dX8_know_89 rfl ?_
      obtain ⟨r41, e42, h⟩ := hx_bind h
      refine hs_callV0 hC 6 [_] _ dX8_know_90 q1593 q1594 q1595 q320 q1596 np_X6 rfl OB_6 pd_X6_place (Nat.le_of_ble_eq_true rfl) hd1 (okX6_place l E A (d - 1)  (by omega)  e42 am16) rfl ?_
      obtain ⟨r45, e46, h⟩ := hx_bind h
      refine hs_callV0 hC 9 [_, _] _ dX8_know_93 q1597 q1598 q1599 q323 q1600 np_X9 rfl OB_9 pd_X9_say (Nat.le_of_ble_eq_true rfl) hd1 (okX9_say l E A (d - 1)  (by omega)  e46 am16) rfl ?_
      refine hr_goto hC 122 dX8_know_96 (by decide) ?_
      obtain rfl := Option.some.inj h
      exact hr_sub _ rfl (J31 am16)
  clear h
  have h := e4
  refine hr_icmp_ne (x := _) hC 52 dX8_know_9 (by decide) (fun c2 => ?_) (fun c2 => ?_)
  · rw [if_neg c2] at h
    obtain rfl := Option.some.inj h
    exact hr_sub _ rfl (J5 am)
  · rw [if_pos c2] at h
    refine hr_iconst (v := 2) hC dX8_know_12 rfl ?_
    refine hr_aload_n hC dX8_know_13 rfl ?_
    refine hr_gI hC F8_9 dX8_know_14 q670 ?_
    refine hr_imul hC dX8_know_17 ?_
    obtain ⟨c7, h⟩ := hk_ok h
    obtain ⟨σ9, hσ9, h⟩ := hl_ok h
    refine hs_newI hC dX8_know_18 c7 (fun q8 => ?_)
    rw [← hσ9]
    refine hr_astore_n hC dX8_know_20 (by decide) ?_
    refine hr_aload_n hC dX8_know_21 rfl ?_
    refine hr_gA hC F8_7 rfl dX8_know_22 q668 ?_
    refine hr_iconst (v := 0) hC dX8_know_25 rfl ?_
    refine hr_aload_n hC dX8_know_26 rfl ?_
    refine hr_iconst (v := 0) hC dX8_know_27 rfl ?_
    refine hr_aload_n hC dX8_know_28 rfl ?_
    refine hr_gI hC F8_9 dX8_know_29 q670 ?_
    obtain ⟨c10, h⟩ := hk_ok h
    refine hr_copy1 hC A8_7 c10 dX8_know_32 q1584 hd1 (Nat.le_of_ble_eq_true rfl) ?_
    refine hr_aload_n hC dX8_know_35 rfl ?_
    refine hr_aload_n hC dX8_know_36 rfl ?_
    obtain ⟨σ11, hσ11, h⟩ := hl_ok h
    refine hr_pA hC F8_7 rfl A8_7 PX8_7 (hc_mm rfl) dX8_know_37 q668 ?_
    rw [← hσ11]
    refine hr_aload_n hC dX8_know_40 rfl ?_
    refine hr_iconst (v := 2) hC dX8_know_41 rfl ?_
    refine hr_aload_n hC dX8_know_42 rfl ?_
    refine hr_gI hC F8_9 dX8_know_43 q670 ?_
    refine hr_imul hC dX8_know_46 ?_
    obtain ⟨c12, h⟩ := hk_ok h
    obtain ⟨σ14, hσ14, h⟩ := hl_ok h
    refine hs_newI hC dX8_know_47 c12 (fun q13 => ?_)
    rw [← hσ14]
    obtain ⟨σ15, hσ15, h⟩ := hl_ok h
    refine hr_pA hC F8_8 rfl A8_8 PX8_8 (hc_mm rfl) dX8_know_49 q669 ?_
    rw [← hσ15]
    obtain rfl := Option.some.inj h
    exact hr_sub _ rfl (J5 ((hc_up2 (hc_up2 am 8 7 q8) 8 8 q13)))
/-- HomeCompiler$Symbols.find(I)I -/
def fm_X10_find  (x1 : Int32) (σ : hc_St) : Option Int32 := hk (inb x1 (gL σ 10 5)) <| some ((gC σ 10 5 x1))
set_option maxRecDepth 20000 in
set_option maxHeartbeats 4000000 in
theorem okX10_find (l : Launch) (E : hc_E) (A : Nat → Prop) (d : Nat)  (hD : 1 ≤ d) {x1 : Int32} {σ : hc_St} {r : Int32} (h : fm_X10_find  x1 σ = some r) (am : Nat → Nat → Nat) : hc_M l hc_V0 yX10_find (ws_ yX10_find cX10_find 2 (some .int)) d E A [.ref (E.2.1 10), .int x1] am [] σ (.inl (some (.int r))) σ := by
  have hd1 : 1 ≤ d := by omega
  refine hc_enter2 (own := RX10) [(0, .ref (E.2.1 10)), (1, .int x1)] pl_X10 rfl hc_V0_st hc_G0_nd rfl (Nat.le_of_ble_eq_true rfl) (fun X hC hem => ?_)
  unfold fm_X10_find at h
  refine hr_aload_n hC dX10_find_0 rfl ?_
  refine hr_gA hC F10_5 rfl dX10_find_1 q614 ?_
  refine hr_iload_n hC dX10_find_4 rfl ?_
  obtain ⟨c1, h⟩ := hk_ok h
  refine hs_iald hC A10_5 c1 dX10_find_5 ?_
  obtain rfl := Option.some.inj h
  exact hr_iret hC dX10_find_6
/-- HomeCompiler$Symbols.sort(I)I -/
def fm_X10_sort  (x1 : Int32) (σ : hc_St) : Option Int32 := hk (inb x1 (gL σ 10 1)) <| some ((gC σ 10 1 x1))
set_option maxRecDepth 20000 in
set_option maxHeartbeats 4000000 in
theorem okX10_sort (l : Launch) (E : hc_E) (A : Nat → Prop) (d : Nat)  (hD : 1 ≤ d) {x1 : Int32} {σ : hc_St} {r : Int32} (h : fm_X10_sort  x1 σ = some r) (am : Nat → Nat → Nat) : hc_M l hc_V0 yX10_sort (ws_ yX10_sort cX10_sort 2 (some .int)) d E A [.ref (E.2.1 10), .int x1] am [] σ (.inl (some (.int r))) σ := by
  have hd1 : 1 ≤ d := by omega
  refine hc_enter2 (own := RX10) [(0, .ref (E.2.1 10)), (1, .int x1)] pl_X10 rfl hc_V0_st hc_G0_nd rfl (Nat.le_of_ble_eq_true rfl) (fun X hC hem => ?_)
  unfold fm_X10_sort at h
  refine hr_aload_n hC dX10_sort_0 rfl ?_
  refine hr_gA hC F10_1 rfl dX10_sort_1 q610 ?_
  refine hr_iload_n hC dX10_sort_4 rfl ?_
  obtain ⟨c1, h⟩ := hk_ok h
  refine hs_iald hC A10_1 c1 dX10_sort_5 ?_
  obtain rfl := Option.some.inj h
  exact hr_iret hC dX10_sort_6
/-- HomeCompiler$Symbols.value(I)I -/
def fm_X10_value  (x1 : Int32) (σ : hc_St) : Option Int32 := hk (inb x1 (gL σ 10 2)) <| some ((gC σ 10 2 x1))
set_option maxRecDepth 20000 in
set_option maxHeartbeats 4000000 in
theorem okX10_value (l : Launch) (E : hc_E) (A : Nat → Prop) (d : Nat)  (hD : 1 ≤ d) {x1 : Int32} {σ : hc_St} {r : Int32} (h : fm_X10_value  x1 σ = some r) (am : Nat → Nat → Nat) : hc_M l hc_V0 yX10_value (ws_ yX10_value cX10_value 2 (some .int)) d E A [.ref (E.2.1 10), .int x1] am [] σ (.inl (some (.int r))) σ := by
  have hd1 : 1 ≤ d := by omega
  refine hc_enter2 (own := RX10) [(0, .ref (E.2.1 10)), (1, .int x1)] pl_X10 rfl hc_V0_st hc_G0_nd rfl (Nat.le_of_ble_eq_true rfl) (fun X hC hem => ?_)
  unfold fm_X10_value at h
  refine hr_aload_n hC dX10_value_0 rfl ?_
  refine hr_gA hC F10_2 rfl dX10_value_1 q611 ?_
  refine hr_iload_n hC dX10_value_4 rfl ?_
  obtain ⟨c1, h⟩ := hk_ok h
  refine hs_iald hC A10_2 c1 dX10_value_5 ?_
  obtain rfl := Option.some.inj h
  exact hr_iret hC dX10_value_6
/-- HomeCompiler$Nodes.setNumber(II)V -/
def fm_X6_setNumber  (x1 : Int32) (x2 : Int32) (σ : hc_St) : Option hc_St := hk (inb x1 (gL σ 6 5)) <| hl (pC σ 6 5 x1 x2) fun σ2 => some σ2
set_option maxRecDepth 20000 in
set_option maxHeartbeats 4000000 in
theorem okX6_setNumber (l : Launch) (E : hc_E) (A : Nat → Prop) (d : Nat)  (hD : 1 ≤ d) {x1 : Int32} {x2 : Int32} {σ : hc_St} {r : hc_St} (h : fm_X6_setNumber  x1 x2 σ = some r) (am : Nat → Nat → Nat) : hc_M l hc_V0 yX6_setNumber (ws_ yX6_setNumber cX6_setNumber 3 none) d E A [.ref (E.2.1 6), .int x1, .int x2] am [] σ (.inl none) r := by
  have hd1 : 1 ≤ d := by omega
  refine hc_enter2 (own := RX6) [(0, .ref (E.2.1 6)), (1, .int x1), (2, .int x2)] pl_X6 rfl hc_V0_st hc_G0_nd rfl (Nat.le_of_ble_eq_true rfl) (fun X hC hem => ?_)
  unfold fm_X6_setNumber at h
  refine hr_aload_n hC dX6_setNumber_0 rfl ?_
  refine hr_gA hC F6_5 rfl dX6_setNumber_1 q530 ?_
  refine hr_iload_n hC dX6_setNumber_4 rfl ?_
  refine hr_iload_n hC dX6_setNumber_5 rfl ?_
  obtain ⟨c1, h⟩ := hk_ok h
  obtain ⟨σ2, hσ2, h⟩ := hl_ok h
  refine hs_iast hC A6_5 c1 dX6_setNumber_6 ?_
  rw [← hσ2]
  obtain rfl := Option.some.inj h
  exact hr_vret hC dX6_setNumber_7
/-- HomeCompiler$Variables.size(I)I -/
def fm_X11_size  (x1 : Int32) (σ : hc_St) : Option Int32 := hk (inb x1 (gL σ 11 1)) <| some ((gC σ 11 1 x1))
set_option maxRecDepth 20000 in
set_option maxHeartbeats 4000000 in
theorem okX11_size (l : Launch) (E : hc_E) (A : Nat → Prop) (d : Nat)  (hD : 1 ≤ d) {x1 : Int32} {σ : hc_St} {r : Int32} (h : fm_X11_size  x1 σ = some r) (am : Nat → Nat → Nat) : hc_M l hc_V0 yX11_size (ws_ yX11_size cX11_size 2 (some .int)) d E A [.ref (E.2.1 11), .int x1] am [] σ (.inl (some (.int r))) σ := by
  have hd1 : 1 ≤ d := by omega
  refine hc_enter2 (own := RX11) [(0, .ref (E.2.1 11)), (1, .int x1)] pl_X11 rfl hc_V0_st hc_G0_nd rfl (Nat.le_of_ble_eq_true rfl) (fun X hC hem => ?_)
  unfold fm_X11_size at h
  refine hr_aload_n hC dX11_size_0 rfl ?_
  refine hr_gA hC F11_1 rfl dX11_size_1 q641 ?_
  refine hr_iload_n hC dX11_size_4 rfl ?_
  obtain ⟨c1, h⟩ := hk_ok h
  refine hs_iald hC A11_1 c1 dX11_size_5 ?_
  obtain rfl := Option.some.inj h
  exact hr_iret hC dX11_size_6
/-- HomeCompiler$Variables.type(I)I -/
def fm_X11_type  (x1 : Int32) (σ : hc_St) : Option Int32 := hk (inb x1 (gL σ 11 0)) <| some ((gC σ 11 0 x1))
set_option maxRecDepth 20000 in
set_option maxHeartbeats 4000000 in
theorem okX11_type (l : Launch) (E : hc_E) (A : Nat → Prop) (d : Nat)  (hD : 1 ≤ d) {x1 : Int32} {σ : hc_St} {r : Int32} (h : fm_X11_type  x1 σ = some r) (am : Nat → Nat → Nat) : hc_M l hc_V0 yX11_type (ws_ yX11_type cX11_type 2 (some .int)) d E A [.ref (E.2.1 11), .int x1] am [] σ (.inl (some (.int r))) σ := by
  have hd1 : 1 ≤ d := by omega
  refine hc_enter2 (own := RX11) [(0, .ref (E.2.1 11)), (1, .int x1)] pl_X11 rfl hc_V0_st hc_G0_nd rfl (Nat.le_of_ble_eq_true rfl) (fun X hC hem => ?_)
  unfold fm_X11_type at h
  refine hr_aload_n hC dX11_type_0 rfl ?_
  refine hr_gA hC F11_0 rfl dX11_type_1 q640 ?_
  refine hr_iload_n hC dX11_type_4 rfl ?_
  obtain ⟨c1, h⟩ := hk_ok h
  refine hs_iald hC A11_0 c1 dX11_type_5 ?_
  obtain rfl := Option.some.inj h
  exact hr_iret hC dX11_type_6
/-- HomeCompiler$Checker.typeOfVariable(II)I -/
def fm_X8_typeOfVariable  (x1 : Int32) (x2 : Int32) (σ : hc_St) : Option (Int32 × hc_St) := Option.bind (fm_X6_setExtra x1 x2 σ) fun r1 => Option.bind (fm_X11_size x2 r1) fun r5 => Option.bind (α := Int32) (if r5 = 0 then (some (0)) else (Option.bind (fm_X11_type x2 r1) fun r15 => if r15 = 0 then (some (1)) else (some (2)))) fun r11 => some (r11, r1)
set_option maxRecDepth 20000 in
set_option maxHeartbeats 4000000 in
theorem okX8_typeOfVariable (l : Launch) (E : hc_E) (A : Nat → Prop) (d : Nat)  (hD : 2 ≤ d) {x1 : Int32} {x2 : Int32} {σ : hc_St} {r : (Int32 × hc_St)} (h : fm_X8_typeOfVariable  x1 x2 σ = some r) (am : Nat → Nat → Nat) : hc_M l hc_V0 yX8_typeOfVariable (ws_ yX8_typeOfVariable cX8_typeOfVariable 3 (some .int)) d E A [.ref (E.2.1 8), .int x1, .int x2] am [] σ (.inl (some (.int r.1))) r.2 := by
  have hd1 : 1 ≤ d := by omega
  refine hc_enter2 (own := RX8) [(0, .ref (E.2.1 8)), (1, .int x1), (2, .int x2)] pl_X8 rfl hc_V0_st hc_G0_nd rfl (Nat.le_of_ble_eq_true rfl) (fun X hC hem => ?_)
  unfold fm_X8_typeOfVariable at h
  refine hr_aload_n hC dX8_typeOfVariable_0 rfl ?_
  refine hr_gO 6 hC F8_0 rfl dX8_typeOfVariable_1 q661 ?_
  refine hr_iload_n hC dX8_typeOfVariable_4 rfl ?_
  refine hr_iload_n hC dX8_typeOfVariable_5 rfl ?_
  obtain ⟨r1, e2, h⟩ := hx_bind h
  refine hs_callV0 hC 6 [_, _] _ dX8_typeOfVariable_6 q1601 q1463 q1464 q320 q1465 np_X6 rfl OB_6 pd_X6_setExtra (Nat.le_of_ble_eq_true rfl) hd1 (okX6_setExtra l E A (d - 1)  (by omega)  e2 am) rfl ?_
  refine hr_aload_n hC dX8_typeOfVariable_9 rfl ?_
  refine hr_gO 11 hC F8_5 rfl dX8_typeOfVariable_10 q666 ?_
  refine hr_iload_n hC dX8_typeOfVariable_13 rfl ?_
  obtain ⟨r5, e6, h⟩ := hx_bind h
  refine hs_callV0 hC 11 [_] _ dX8_typeOfVariable_14 q1654 q1655 q1656 q325 q1657 np_X11 rfl OB_11 pd_X11_size (Nat.le_of_ble_eq_true rfl) hd1 (okX11_size l E A (d - 1)  (by omega)  e6 am) rfl ?_
  obtain ⟨r11, e12, h⟩ := hx_bind h
  have J13 : hc_At hc_V0 E 3 X 40 [] [.int r11] r1 am [] := by
    obtain rfl := Option.some.inj h
    exact hr_iret hC dX8_typeOfVariable_40
  clear h
  have h := e12
  refine hr_if_ne (x := _) hC 24 dX8_typeOfVariable_17 (by decide) (fun c10 => ?_) (fun c10 => ?_)
  · rw [if_neg c10] at h
    refine hr_aload_n hC dX8_typeOfVariable_24 rfl ?_
    refine hr_gO 11 hC F8_5 rfl dX8_typeOfVariable_25 q666 ?_
    refine hr_iload_n hC dX8_typeOfVariable_28 rfl ?_
    obtain ⟨r15, e16, h⟩ := hx_bind h
    refine hs_callV0 hC 11 [_] _ dX8_typeOfVariable_29 q1658 q1659 q1660 q325 q1661 np_X11 rfl OB_11 pd_X11_type (Nat.le_of_ble_eq_true rfl) hd1 (okX11_type l E A (d - 1)  (by omega)  e16 am) rfl ?_
    refine hr_if_ne (x := _) hC 39 dX8_typeOfVariable_32 (by decide) (fun c20 => ?_) (fun c20 => ?_)
    · rw [if_neg c20] at h
      refine hr_iconst (v := 2) hC dX8_typeOfVariable_39 rfl ?_
      obtain rfl := Option.some.inj h
      exact hr_sub _ rfl (J13)
    · rw [if_pos c20] at h
      refine hr_iconst (v := 1) hC dX8_typeOfVariable_35 rfl ?_
      refine hr_goto hC 40 dX8_typeOfVariable_36 (by decide) ?_
      obtain rfl := Option.some.inj h
      exact hr_sub _ rfl (J13)
  · rw [if_pos c10] at h
    refine hr_iconst (v := 0) hC dX8_typeOfVariable_20 rfl ?_
    refine hr_goto hC 40 dX8_typeOfVariable_21 (by decide) ?_
    obtain rfl := Option.some.inj h
    exact hr_sub _ rfl (J13)
/-- HomeCompiler$Checker.typeOfName(I)I -/
def fm_X8_typeOfName  (x1 : Int32) (σ : hc_St) : Option (Int32 × hc_St) := Option.bind (fm_X6_value x1 σ) fun r1 => Option.bind (fm_X10_find r1 σ) fun r5 => if r5 = (-1) then (Option.bind (fm_X6_op x1 σ) fun r11 => Option.bind (fm_X9_say 2 r11 σ) fun r15 => some (4, r15)) else (Option.bind (fm_X10_sort r5 σ) fun r19 => if r19 = 2 then (Option.bind (fm_X6_op x1 σ) fun r51 => Option.bind (fm_X9_say 2 r51 σ) fun r55 => some (4, r55)) else (Option.bind (fm_X10_sort r5 σ) fun r25 => if r25 = 3 then (Option.bind (fm_X6_setExtra x1 ((-2)) σ) fun r39 => Option.bind (fm_X10_value r5 r39) fun r43 => Option.bind (fm_X6_setNumber x1 r43 r39) fun r47 => some (0, r47)) else (Option.bind (fm_X10_value r5 σ) fun r31 => Option.bind (fm_X8_typeOfVariable x1 r31 σ) fun r35 => some (r35.1, r35.2))))
set_option maxRecDepth 20000 in
set_option maxHeartbeats 4000000 in
theorem okX8_typeOfName (l : Launch) (E : hc_E) (A : Nat → Prop) (d : Nat)  (hD : 3 ≤ d) {x1 : Int32} {σ : hc_St} {r : (Int32 × hc_St)} (h : fm_X8_typeOfName  x1 σ = some r) (am : Nat → Nat → Nat) : hc_M l hc_V0 yX8_typeOfName (ws_ yX8_typeOfName cX8_typeOfName 3 (some .int)) d E A [.ref (E.2.1 8), .int x1] am [] σ (.inl (some (.int r.1))) r.2 := by
  have hd1 : 1 ≤ d := by omega
  refine hc_enter2 (own := RX8) [(0, .ref (E.2.1 8)), (1, .int x1)] pl_X8 rfl hc_V0_st hc_G0_nd rfl (Nat.le_of_ble_eq_true rfl) (fun X hC hem => ?_)
  unfold fm_X8_typeOfName at h
  refine hr_aload_n hC dX8_typeOfName_0 rfl ?_
  refine hr_gO 10 hC F8_4 rfl dX8_typeOfName_1 q665 ?_
  refine hr_aload_n hC dX8_typeOfName_4 rfl ?_
  refine hr_gO 6 hC F8_0 rfl dX8_typeOfName_5 q661 ?_
  refine hr_iload_n hC dX8_typeOfName_8 rfl ?_
  obtain ⟨r1, e2, h⟩ := hx_bind h
  refine hs_callV0 hC 6 [_] _ dX8_typeOfName_9 q1585 q1586 q1587 q320 q1588 np_X6 rfl OB_6 pd_X6_value (Nat.le_of_ble_eq_true rfl) hd1 (okX6_value l E A (d - 1)  (by omega)  e2 am) rfl ?_
  obtain ⟨r5, e6, h⟩ := hx_bind h
  refine hs_callV0 hC 10 [_] _ dX8_typeOfName_12 q1630 q1631 q1632 q324 q1633 np_X10 rfl OB_10 pd_X10_find (Nat.le_of_ble_eq_true rfl) hd1 (okX10_find l E A (d - 1)  (by omega)  e6 am) rfl ?_
  refine hr_istore_n hC dX8_typeOfName_15 (by decide) ?_
  refine hr_iload_n hC dX8_typeOfName_16 rfl ?_
  refine hr_iconst (v := (-1)) hC dX8_typeOfName_17 rfl ?_
  refine hr_icmp_eq (x := _) hC 33 dX8_typeOfName_18 (by decide) (fun c10 => ?_) (fun c10 => ?_)
  · rw [if_pos c10] at h
    refine hr_aload_n hC dX8_typeOfName_33 rfl ?_
    refine hr_gO 9 hC F8_3 rfl dX8_typeOfName_34 q664 ?_
    refine hr_iconst (v := 2) hC dX8_typeOfName_37 rfl ?_
    refine hr_aload_n hC dX8_typeOfName_38 rfl ?_
    refine hr_gO 6 hC F8_0 rfl dX8_typeOfName_39 q661 ?_
    refine hr_iload_n hC dX8_typeOfName_42 rfl ?_
    obtain ⟨r11, e12, h⟩ := hx_bind h
    refine hs_callV0 hC 6 [_] _ dX8_typeOfName_43 q1638 q1639 q1640 q320 q1641 np_X6 rfl OB_6 pd_X6_op (Nat.le_of_ble_eq_true rfl) hd1 (okX6_op l E A (d - 1)  (by omega)  e12 am) rfl ?_
    obtain ⟨r15, e16, h⟩ := hx_bind h
    refine hs_callV0 hC 9 [_, _] _ dX8_typeOfName_46 q1597 q1598 q1599 q323 q1600 np_X9 rfl OB_9 pd_X9_say (Nat.le_of_ble_eq_true rfl) hd1 (okX9_say l E A (d - 1)  (by omega)  e16 am) rfl ?_
    refine hr_iconst (v := 4) hC dX8_typeOfName_49 rfl ?_
    obtain rfl := Option.some.inj h
    exact hr_iret hC dX8_typeOfName_50
  · rw [if_neg c10] at h
    refine hr_aload_n hC dX8_typeOfName_21 rfl ?_
    refine hr_gO 10 hC F8_4 rfl dX8_typeOfName_22 q665 ?_
    refine hr_iload_n hC dX8_typeOfName_25 rfl ?_
    obtain ⟨r19, e20, h⟩ := hx_bind h
    refine hs_callV0 hC 10 [_] _ dX8_typeOfName_26 q1634 q1635 q1636 q324 q1637 np_X10 rfl OB_10 pd_X10_sort (Nat.le_of_ble_eq_true rfl) hd1 (okX10_sort l E A (d - 1)  (by omega)  e20 am) rfl ?_
    refine hr_iconst (v := 2) hC dX8_typeOfName_29 rfl ?_
    refine hr_icmp_ne (x := _) hC 51 dX8_typeOfName_30 (by decide) (fun c24 => ?_) (fun c24 => ?_)
    · rw [if_neg c24] at h
      refine hr_aload_n hC dX8_typeOfName_51 rfl ?_
      refine hr_gO 10 hC F8_4 rfl dX8_typeOfName_52 q665 ?_
      refine hr_iload_n hC dX8_typeOfName_55 rfl ?_
      obtain ⟨r25, e26, h⟩ := hx_bind h
      refine hs_callV0 hC 10 [_] _ dX8_typeOfName_56 q1634 q1635 q1636 q324 q1637 np_X10 rfl OB_10 pd_X10_sort (Nat.le_of_ble_eq_true rfl) hd1 (okX10_sort l E A (d - 1)  (by omega)  e26 am) rfl ?_
      refine hr_iconst (v := 3) hC dX8_typeOfName_59 rfl ?_
      refine hr_icmp_ne (x := _) hC 91 dX8_typeOfName_60 (by decide) (fun c30 => ?_) (fun c30 => ?_)
      · rw [if_neg c30] at h
        refine hr_aload_n hC dX8_typeOfName_91 rfl ?_
        refine hr_iload_n hC dX8_typeOfName_92 rfl ?_
        refine hr_aload_n hC dX8_typeOfName_93 rfl ?_
        refine hr_gO 10 hC F8_4 rfl dX8_typeOfName_94 q665 ?_
        refine hr_iload_n hC dX8_typeOfName_97 rfl ?_
        obtain ⟨r31, e32, h⟩ := hx_bind h
        refine hs_callV0 hC 10 [_] _ dX8_typeOfName_98 q1642 q1643 q1644 q324 q1645 np_X10 rfl OB_10 pd_X10_value (Nat.le_of_ble_eq_true rfl) hd1 (okX10_value l E A (d - 1)  (by omega)  e32 am) rfl ?_
        obtain ⟨r35, e36, h⟩ := hx_bind h
        refine hs_callV0 hC 8 [_, _] _ dX8_typeOfName_101 q1650 q1652 qs63 q322 q1653 np_X8 rfl OB_8 pd_X8_typeOfVariable (Nat.le_of_ble_eq_true rfl) hd1 (okX8_typeOfVariable l E A (d - 1)  (by omega)  e36 am) rfl ?_
        obtain rfl := Option.some.inj h
        exact hr_iret hC dX8_typeOfName_104
      · rw [if_pos c30] at h
        refine hr_aload_n hC dX8_typeOfName_63 rfl ?_
        refine hr_gO 6 hC F8_0 rfl dX8_typeOfName_64 q661 ?_
        refine hr_iload_n hC dX8_typeOfName_67 rfl ?_
        refine hr_bipush (v := (-2)) hC dX8_typeOfName_68 rfl ?_
        obtain ⟨r39, e40, h⟩ := hx_bind h
        refine hs_callV0 hC 6 [_, _] _ dX8_typeOfName_70 q1601 q1463 q1464 q320 q1465 np_X6 rfl OB_6 pd_X6_setExtra (Nat.le_of_ble_eq_true rfl) hd1 (okX6_setExtra l E A (d - 1)  (by omega)  e40 am) rfl ?_
        refine hr_aload_n hC dX8_typeOfName_73 rfl ?_
        refine hr_gO 6 hC F8_0 rfl dX8_typeOfName_74 q661 ?_
        refine hr_iload_n hC dX8_typeOfName_77 rfl ?_
        refine hr_aload_n hC dX8_typeOfName_78 rfl ?_
        refine hr_gO 10 hC F8_4 rfl dX8_typeOfName_79 q665 ?_
        refine hr_iload_n hC dX8_typeOfName_82 rfl ?_
        obtain ⟨r43, e44, h⟩ := hx_bind h
        refine hs_callV0 hC 10 [_] _ dX8_typeOfName_83 q1642 q1643 q1644 q324 q1645 np_X10 rfl OB_10 pd_X10_value (Nat.le_of_ble_eq_true rfl) hd1 (okX10_value l E A (d - 1)  (by omega)  e44 am) rfl ?_
        obtain ⟨r47, e48, h⟩ := hx_bind h
        refine hs_callV0 hC 6 [_, _] _ dX8_typeOfName_86 q1646 q1647 q1648 q320 q1649 np_X6 rfl OB_6 pd_X6_setNumber (Nat.le_of_ble_eq_true rfl) hd1 (okX6_setNumber l E A (d - 1)  (by omega)  e48 am) rfl ?_
        refine hr_iconst (v := 0) hC dX8_typeOfName_89 rfl ?_
        obtain rfl := Option.some.inj h
        exact hr_iret hC dX8_typeOfName_90
    · rw [if_pos c24] at h
      refine hr_aload_n hC dX8_typeOfName_33 rfl ?_
      refine hr_gO 9 hC F8_3 rfl dX8_typeOfName_34 q664 ?_
      refine hr_iconst (v := 2) hC dX8_typeOfName_37 rfl ?_
      refine hr_aload_n hC dX8_typeOfName_38 rfl ?_
      refine hr_gO 6 hC F8_0 rfl dX8_typeOfName_39 q661 ?_
      refine hr_iload_n hC dX8_typeOfName_42 rfl ?_
      obtain ⟨r51, e52, h⟩ := hx_bind h
      refine hs_callV0 hC 6 [_] _ dX8_typeOfName_43 q1638 q1639 q1640 q320 q1641 np_X6 rfl OB_6 pd_X6_op (Nat.le_of_ble_eq_true rfl) hd1 (okX6_op l E A (d - 1)  (by omega)  e52 am) rfl ?_
      obtain ⟨r55, e56, h⟩ := hx_bind h
      refine hs_callV0 hC 9 [_, _] _ dX8_typeOfName_46 q1597 q1598 q1599 q323 q1600 np_X9 rfl OB_9 pd_X9_say (Nat.le_of_ble_eq_true rfl) hd1 (okX9_say l E A (d - 1)  (by omega)  e56 am) rfl ?_
      refine hr_iconst (v := 4) hC dX8_typeOfName_49 rfl ?_
      obtain rfl := Option.some.inj h
      exact hr_iret hC dX8_typeOfName_50
/-- HomeCompiler$Words.takes(I)Ljava/lang/String; -/
def fm_X2_takes  (x1 : Int32) (σ : hc_St) : Option Int32 := hk (inb x1 (gL σ 1 2)) <| some ((gC σ 1 2 x1))
set_option maxRecDepth 20000 in
set_option maxHeartbeats 4000000 in
theorem okX2_takes (l : Launch) (E : hc_E) (A : Nat → Prop) (d : Nat)  (hD : 1 ≤ d) {x1 : Int32} {σ : hc_St} {r : Int32} (h : fm_X2_takes  x1 σ = some r) (am : Nat → Nat → Nat) : hc_M l hc_V0 yX2_takes (ws_ yX2_takes cX2_takes 2 (some (.object "java/lang/String"))) d E A [.ref (E.2.1 1), .int x1] am [] σ (.inl (some (.ref (E.2.2.2.1 r.toNatClampNeg)))) σ := by
  have hd1 : 1 ≤ d := by omega
  refine hc_enter2 (own := RX2) [(0, .ref (E.2.1 1)), (1, .int x1)] pl_X2 rfl hc_V0_st hc_G0_nd rfl (Nat.le_of_ble_eq_true rfl) (fun X hC hem => ?_)
  unfold fm_X2_takes at h
  refine hr_aload_n hC dX2_takes_0 rfl ?_
  refine hr_gA hC F1_2 rfl dX2_takes_1 q408 ?_
  refine hr_iload_n hC dX2_takes_4 rfl ?_
  obtain ⟨c1, h⟩ := hk_ok h
  refine hs_sald hC A1_2 c1 dX2_takes_5 ?_
  obtain rfl := Option.some.inj h
  exact hr_aret hC (Or.inl ⟨_, rfl⟩) dX2_takes_6
def okg_X8_sortOf (l : Launch) (E : hc_E) (A : Nat → Prop) (d : Nat) (am : Nat → Nat → Nat) (w : Nat) (a : List Int32) (σ : hc_St) (r : (Int32 × hc_St)) : Prop := match w with
  | 0 => hc_M l hc_V0 yX8_sortOf (ws_ yX8_sortOf cX8_sortOf 6 (some .int)) d E A [.ref (E.2.1 8), .int (a.getD 0 0)] am [] σ (.inl (some (.int r.1))) r.2
  | _ => True
def lp_X8_sortOf_116 (n : Nat) (k0 : Nat) (rec : Nat → List Int32 → hc_St → Option (Int32 × hc_St)) : Nat → Int32 → Int32 → hc_St → Option (hc_St × Int32)
  | 0, _, _, _ => none
  | m + 1, y3, y4, σ => if y4 = (-1) then (some (σ, y3)) else (Option.bind (fm_X6_kind y4 σ) fun r17 => Option.bind (α := hc_St × Int32) (if r17 = 33 then (Option.bind (fm_X6_first y4 σ) fun r31 => Option.bind (rec 0 [r31] σ) fun r35 => some (r35.2, r35.1)) else (Option.bind (rec 0 [y4] σ) fun r27 => some (r27.2, r27.1))) fun r23 => Option.bind (α := Int32) (if y3 = 0 then (some (0)) else (if r23.2 = 0 then (some (0)) else (some ((jmax y3 r23.2))))) fun r41 => Option.bind (fm_X6_next y4 r23.1) fun r48 => lp_X8_sortOf_116 n k0 rec m r41 r48 r23.1)
/-- HomeCompiler$Checker.sortOf(I)I -/
def bd_X8_sortOf (n : Nat) (k0 : Nat) (rec : Nat → List Int32 → hc_St → Option (Int32 × hc_St)) (x1 : Int32) (σ : hc_St) : Option (Int32 × hc_St) := Option.bind (fm_X6_kind x1 σ) fun r1 => if r1 = 37 then (some (1, σ)) else (if r1 = 38 then (Option.bind (fm_X6_value x1 σ) fun r90 => Option.bind (fm_X10_find r90 σ) fun r94 => Option.bind (α := Int32) (if r94 = (-1) then (some (2)) else (Option.bind (fm_X10_sort r94 σ) fun r104 => if r104 = 2 then (some (2)) else (Option.bind (fm_X10_sort r94 σ) fun r110 => if r110 = 3 then (some (1)) else (some (0))))) fun r100 => some (r100, σ)) else (if r1 = 32 then (Option.bind (fm_X6_first x1 σ) fun r11 => Option.bind (lp_X8_sortOf_116 n k0 rec n 1 r11 σ) fun r52 => some (r52.2, r52.1)) else (if r1 = 33 then (Option.bind (fm_X6_first x1 σ) fun r59 => Option.bind (lp_X8_sortOf_116 n k0 rec n 1 r59 σ) fun r63 => some (r63.2, r63.1)) else (if r1 = 34 then (Option.bind (fm_X6_first x1 σ) fun r70 => Option.bind (lp_X8_sortOf_116 n k0 rec n 1 r70 σ) fun r74 => some (r74.2, r74.1)) else (if r1 = 31 then (Option.bind (fm_X6_first x1 σ) fun r81 => Option.bind (lp_X8_sortOf_116 n k0 rec n 1 r81 σ) fun r85 => some (r85.2, r85.1)) else (some (0, σ)))))))
set_option maxRecDepth 20000 in
set_option maxHeartbeats 4000000 in
theorem ll_X8_sortOf_116 {l : Launch} {E : hc_E} {A : Nat → Prop} {am : Nat → Nat → Nat} {d : Nat} {kk : Nat} {X : hc_X} (n : Nat) (k0 : Nat) (rec : Nat → List Int32 → hc_St → Option (Int32 × hc_St)) (hD : kk + 2 ≤ d) (hem : X.2.2.2.2.2.2.2.2.2.1.exceptionTable.isEmpty = true) (IH : ∀ (w : Nat) (a : List Int32) (σ : hc_St) (r : (Int32 × hc_St)), rec w a σ = some r → ∀ am, okg_X8_sortOf l E A (d - 1) am w a σ r) {oc : hc_Oc} {σe : hc_St} (hC : hc_C hc_V0 E cX8_sortOf 6 RX8 (some .int) d oc σe (l, A, am, []) X) : ∀ (m : Nat) (σ : hc_St) (y3 : Int32) (y4 : Int32) (rl : hc_St × Int32) (am1 : Nat → Nat → Nat), lp_X8_sortOf_116 n k0 rec m y3 y4 σ = some rl → (hc_At hc_V0 E 6 X 194 [(3, .int rl.2)] [] rl.1 am1 []) → hc_At hc_V0 E 6 X 116 [(0, .ref (E.2.1 8)), (3, .int y3), (4, .int y4)] [] σ am1 [] := by
  have hd1 : 1 ≤ d := by omega
  intro m
  induction m with
  | zero =>
    intro σ y3 y4 rl am1 h
    cases h
  | succ m ih =>
    intro σ y3 y4 rl am1 h JX
    rw [lp_X8_sortOf_116] at h
    refine hr_iload hC dX8_sortOf_116 rfl ?_
    refine hr_iconst (v := (-1)) hC dX8_sortOf_118 rfl ?_
    refine hr_icmp_eq (x := _) hC 194 dX8_sortOf_119 (by decide) (fun c16 => ?_) (fun c16 => ?_)
    · rw [if_pos c16] at h
      obtain rfl := Option.some.inj h
      exact hr_sub _ rfl (JX)
    · rw [if_neg c16] at h
      refine hr_aload_n hC dX8_sortOf_122 rfl ?_
      refine hr_gO 6 hC F8_0 rfl dX8_sortOf_123 q661 ?_
      refine hr_iload hC dX8_sortOf_126 rfl ?_
      obtain ⟨r17, e18, h⟩ := hx_bind h
      refine hs_callV0 hC 6 [_] _ dX8_sortOf_128 q1579 q1369 q1370 q320 q1371 np_X6 rfl OB_6 pd_X6_kind (Nat.le_of_ble_eq_true rfl) hd1 (okX6_kind l E A (d - 1)  (by omega)  e18 am1) rfl ?_
      refine hr_bipush (v := 33) hC dX8_sortOf_131 rfl ?_
      obtain ⟨r23, e24, h⟩ := hx_bind h
      have J25 : hc_At hc_V0 E 6 X 158 [(0, .ref (E.2.1 8)), (3, .int y3), (4, .int y4)] [.int r23.2] r23.1 am1 [] := by
        refine hr_istore hC dX8_sortOf_158 (by decide) ?_
        refine hr_iload_n hC dX8_sortOf_160 rfl ?_
        obtain ⟨r41, e42, h⟩ := hx_bind h
        have J43 : hc_At hc_V0 E 6 X 179 [(0, .ref (E.2.1 8)), (4, .int y4)] [.int r41] r23.1 am1 [] := by
          refine hr_istore_n hC dX8_sortOf_179 (by decide) ?_
          refine hr_aload_n hC dX8_sortOf_180 rfl ?_
          refine hr_gO 6 hC F8_0 rfl dX8_sortOf_181 q661 ?_
          refine hr_iload hC dX8_sortOf_184 rfl ?_
          obtain ⟨r48, e49, h⟩ := hx_bind h
          refine hs_callV0 hC 6 [_] _ dX8_sortOf_186 q1602 q1603 q1604 q320 q1605 np_X6 rfl OB_6 pd_X6_next (Nat.le_of_ble_eq_true rfl) hd1 (okX6_next l E A (d - 1)  (by omega)  e49 am1) rfl ?_
          refine hr_istore hC dX8_sortOf_189 (by decide) ?_
          refine hr_goto hC 116 dX8_sortOf_191 (by decide) ?_
          exact hr_sub _ rfl (ih _ _ _ _ am1 h JX)
        clear h
        have h := e42
        refine hr_if_eq (x := _) hC 169 dX8_sortOf_161 (by decide) (fun c40 => ?_) (fun c40 => ?_)
        · rw [if_pos c40] at h
          refine hr_iconst (v := 0) hC dX8_sortOf_169 rfl ?_
          refine hr_goto hC 179 dX8_sortOf_170 (by decide) ?_
          obtain rfl := Option.some.inj h
          exact hr_sub _ rfl (J43)
        · rw [if_neg c40] at h
          refine hr_iload hC dX8_sortOf_164 rfl ?_
          refine hr_if_ne (x := _) hC 173 dX8_sortOf_166 (by decide) (fun c46 => ?_) (fun c46 => ?_)
          · rw [if_neg c46] at h
            refine hr_iload_n hC dX8_sortOf_173 rfl ?_
            refine hr_iload hC dX8_sortOf_174 rfl ?_
            refine hr_max hC dX8_sortOf_176 q1702 hd1 (Nat.le_of_ble_eq_true rfl) ?_
            obtain rfl := Option.some.inj h
            exact hr_sub _ rfl (J43)
          · rw [if_pos c46] at h
            refine hr_iconst (v := 0) hC dX8_sortOf_169 rfl ?_
            refine hr_goto hC 179 dX8_sortOf_170 (by decide) ?_
            obtain rfl := Option.some.inj h
            exact hr_sub _ rfl (J43)
      clear h
      have h := e24
      refine hr_icmp_ne (x := _) hC 152 dX8_sortOf_133 (by decide) (fun c22 => ?_) (fun c22 => ?_)
      · rw [if_neg c22] at h
        refine hr_aload_n hC dX8_sortOf_152 rfl ?_
        refine hr_iload hC dX8_sortOf_153 rfl ?_
        obtain ⟨r27, e28, h⟩ := hx_bind h
        refine hs_callV0 hC 8 [_] _ dX8_sortOf_155 q1698 q1700 qs70 q322 q1701 np_X8 rfl OB_8 pd_X8_sortOf (Nat.le_of_ble_eq_true rfl) hd1 (IH _ _ _ _ e28 am1) rfl ?_
        obtain rfl := Option.some.inj h
        exact hr_sub _ rfl (J25)
      · rw [if_pos c22] at h
        refine hr_aload_n hC dX8_sortOf_136 rfl ?_
        refine hr_aload_n hC dX8_sortOf_137 rfl ?_
        refine hr_gO 6 hC F8_0 rfl dX8_sortOf_138 q661 ?_
        refine hr_iload hC dX8_sortOf_141 rfl ?_
        obtain ⟨r31, e32, h⟩ := hx_bind h
        refine hs_callV0 hC 6 [_] _ dX8_sortOf_143 q1575 q1576 q1577 q320 q1578 np_X6 rfl OB_6 pd_X6_first (Nat.le_of_ble_eq_true rfl) hd1 (okX6_first l E A (d - 1)  (by omega)  e32 am1) rfl ?_
        obtain ⟨r35, e36, h⟩ := hx_bind h
        refine hs_callV0 hC 8 [_] _ dX8_sortOf_146 q1698 q1700 qs70 q322 q1701 np_X8 rfl OB_8 pd_X8_sortOf (Nat.le_of_ble_eq_true rfl) hd1 (IH _ _ _ _ e36 am1) rfl ?_
        refine hr_goto hC 158 dX8_sortOf_149 (by decide) ?_
        obtain rfl := Option.some.inj h
        exact hr_sub _ rfl (J25)
set_option maxRecDepth 20000 in
set_option maxHeartbeats 4000000 in
theorem okbX8_sortOf (l : Launch) (E : hc_E) (A : Nat → Prop) (d : Nat) {kk : Nat} (n : Nat) (k0 : Nat) (rec : Nat → List Int32 → hc_St → Option (Int32 × hc_St)) (hD : kk + 2 ≤ d) (IH : ∀ (w : Nat) (a : List Int32) (σ : hc_St) (r : (Int32 × hc_St)), rec w a σ = some r → ∀ am, okg_X8_sortOf l E A (d - 1) am w a σ r) {x1 : Int32} {σ : hc_St} {r : (Int32 × hc_St)} (h : bd_X8_sortOf n k0 rec x1 σ = some r) (am : Nat → Nat → Nat) : hc_M l hc_V0 yX8_sortOf (ws_ yX8_sortOf cX8_sortOf 6 (some .int)) d E A [.ref (E.2.1 8), .int x1] am [] σ (.inl (some (.int r.1))) r.2 := by
  have hd1 : 1 ≤ d := by omega
  refine hc_enter2 (own := RX8) [(0, .ref (E.2.1 8)), (1, .int x1)] pl_X8 rfl hc_V0_st hc_G0_nd rfl (Nat.le_of_ble_eq_true rfl) (fun X hC hem => ?_)
  unfold bd_X8_sortOf at h
  refine hr_aload_n hC dX8_sortOf_0 rfl ?_
  refine hr_gO 6 hC F8_0 rfl dX8_sortOf_1 q661 ?_
  refine hr_iload_n hC dX8_sortOf_4 rfl ?_
  obtain ⟨r1, e2, h⟩ := hx_bind h
  refine hs_callV0 hC 6 [_] _ dX8_sortOf_5 q1579 q1369 q1370 q320 q1371 np_X6 rfl OB_6 pd_X6_kind (Nat.le_of_ble_eq_true rfl) hd1 (okX6_kind l E A (d - 1)  (by omega)  e2 am) rfl ?_
  refine hr_istore_n hC dX8_sortOf_8 (by decide) ?_
  refine hr_iload_n hC dX8_sortOf_9 rfl ?_
  refine hr_bipush (v := 37) hC dX8_sortOf_10 rfl ?_
  refine hr_icmp_ne (x := _) hC 17 dX8_sortOf_12 (by decide) (fun c6 => ?_) (fun c6 => ?_)
  · rw [if_neg c6] at h
    refine hr_iload_n hC dX8_sortOf_17 rfl ?_
    refine hr_bipush (v := 38) hC dX8_sortOf_18 rfl ?_
    refine hr_icmp_ne (x := _) hC 78 dX8_sortOf_20 (by decide) (fun c8 => ?_) (fun c8 => ?_)
    · rw [if_neg c8] at h
      refine hr_iload_n hC dX8_sortOf_78 rfl ?_
      refine hr_bipush (v := 32) hC dX8_sortOf_79 rfl ?_
      refine hr_icmp_eq (x := _) hC 104 dX8_sortOf_81 (by decide) (fun c10 => ?_) (fun c10 => ?_)
      · rw [if_pos c10] at h
        refine hr_iconst (v := 1) hC dX8_sortOf_104 rfl ?_
        refine hr_istore_n hC dX8_sortOf_105 (by decide) ?_
        refine hr_aload_n hC dX8_sortOf_106 rfl ?_
        refine hr_gO 6 hC F8_0 rfl dX8_sortOf_107 q661 ?_
        refine hr_iload_n hC dX8_sortOf_110 rfl ?_
        obtain ⟨r11, e12, h⟩ := hx_bind h
        refine hs_callV0 hC 6 [_] _ dX8_sortOf_111 q1575 q1576 q1577 q320 q1578 np_X6 rfl OB_6 pd_X6_first (Nat.le_of_ble_eq_true rfl) hd1 (okX6_first l E A (d - 1)  (by omega)  e12 am) rfl ?_
        refine hr_istore hC dX8_sortOf_114 (by decide) ?_
        obtain ⟨r52, e53, h⟩ := hx_bind h
        refine hr_sub _ rfl (ll_X8_sortOf_116 n k0 rec hD hem IH hC n _ _ _ _ am e53 ?_)
        refine hr_iload_n hC dX8_sortOf_194 rfl ?_
        obtain rfl := Option.some.inj h
        exact hr_iret hC dX8_sortOf_195
      · rw [if_neg c10] at h
        refine hr_iload_n hC dX8_sortOf_84 rfl ?_
        refine hr_bipush (v := 33) hC dX8_sortOf_85 rfl ?_
        refine hr_icmp_eq (x := _) hC 104 dX8_sortOf_87 (by decide) (fun c58 => ?_) (fun c58 => ?_)
        · rw [if_pos c58] at h
          refine hr_iconst (v := 1) hC dX8_sortOf_104 rfl ?_
          refine hr_istore_n hC dX8_sortOf_105 (by decide) ?_
          refine hr_aload_n hC dX8_sortOf_106 rfl ?_
          refine hr_gO 6 hC F8_0 rfl dX8_sortOf_107 q661 ?_
          refine hr_iload_n hC dX8_sortOf_110 rfl ?_
          obtain ⟨r59, e60, h⟩ := hx_bind h
          refine hs_callV0 hC 6 [_] _ dX8_sortOf_111 q1575 q1576 q1577 q320 q1578 np_X6 rfl OB_6 pd_X6_first (Nat.le_of_ble_eq_true rfl) hd1 (okX6_first l E A (d - 1)  (by omega)  e60 am) rfl ?_
          refine hr_istore hC dX8_sortOf_114 (by decide) ?_
          obtain ⟨r63, e64, h⟩ := hx_bind h
          refine hr_sub _ rfl (ll_X8_sortOf_116 n k0 rec hD hem IH hC n _ _ _ _ am e64 ?_)
          refine hr_iload_n hC dX8_sortOf_194 rfl ?_
          obtain rfl := Option.some.inj h
          exact hr_iret hC dX8_sortOf_195
        · rw [if_neg c58] at h
          refine hr_iload_n hC dX8_sortOf_90 rfl ?_
          refine hr_bipush (v := 34) hC dX8_sortOf_91 rfl ?_
          refine hr_icmp_eq (x := _) hC 104 dX8_sortOf_93 (by decide) (fun c69 => ?_) (fun c69 => ?_)
          · rw [if_pos c69] at h
            refine hr_iconst (v := 1) hC dX8_sortOf_104 rfl ?_
            refine hr_istore_n hC dX8_sortOf_105 (by decide) ?_
            refine hr_aload_n hC dX8_sortOf_106 rfl ?_
            refine hr_gO 6 hC F8_0 rfl dX8_sortOf_107 q661 ?_
            refine hr_iload_n hC dX8_sortOf_110 rfl ?_
            obtain ⟨r70, e71, h⟩ := hx_bind h
            refine hs_callV0 hC 6 [_] _ dX8_sortOf_111 q1575 q1576 q1577 q320 q1578 np_X6 rfl OB_6 pd_X6_first (Nat.le_of_ble_eq_true rfl) hd1 (okX6_first l E A (d - 1)  (by omega)  e71 am) rfl ?_
            refine hr_istore hC dX8_sortOf_114 (by decide) ?_
            obtain ⟨r74, e75, h⟩ := hx_bind h
            refine hr_sub _ rfl (ll_X8_sortOf_116 n k0 rec hD hem IH hC n _ _ _ _ am e75 ?_)
            refine hr_iload_n hC dX8_sortOf_194 rfl ?_
            obtain rfl := Option.some.inj h
            exact hr_iret hC dX8_sortOf_195
          · rw [if_neg c69] at h
            refine hr_iload_n hC dX8_sortOf_96 rfl ?_
            refine hr_bipush (v := 31) hC dX8_sortOf_97 rfl ?_
            refine hr_icmp_eq (x := _) hC 104 dX8_sortOf_99 (by decide) (fun c80 => ?_) (fun c80 => ?_)
            · rw [if_pos c80] at h
              refine hr_iconst (v := 1) hC dX8_sortOf_104 rfl ?_
              refine hr_istore_n hC dX8_sortOf_105 (by decide) ?_
              refine hr_aload_n hC dX8_sortOf_106 rfl ?_
              refine hr_gO 6 hC F8_0 rfl dX8_sortOf_107 q661 ?_
              refine hr_iload_n hC dX8_sortOf_110 rfl ?_
              obtain ⟨r81, e82, h⟩ := hx_bind h
              refine hs_callV0 hC 6 [_] _ dX8_sortOf_111 q1575 q1576 q1577 q320 q1578 np_X6 rfl OB_6 pd_X6_first (Nat.le_of_ble_eq_true rfl) hd1 (okX6_first l E A (d - 1)  (by omega)  e82 am) rfl ?_
              refine hr_istore hC dX8_sortOf_114 (by decide) ?_
              obtain ⟨r85, e86, h⟩ := hx_bind h
              refine hr_sub _ rfl (ll_X8_sortOf_116 n k0 rec hD hem IH hC n _ _ _ _ am e86 ?_)
              refine hr_iload_n hC dX8_sortOf_194 rfl ?_
              obtain rfl := Option.some.inj h
              exact hr_iret hC dX8_sortOf_195
            · rw [if_neg c80] at h
              refine hr_iconst (v := 0) hC dX8_sortOf_102 rfl ?_
              obtain rfl := Option.some.inj h
              exact hr_iret hC dX8_sortOf_103
    · rw [if_pos c8] at h
      refine hr_aload_n hC dX8_sortOf_23 rfl ?_
      refine hr_gO 10 hC F8_4 rfl dX8_sortOf_24 q665 ?_
      refine hr_aload_n hC dX8_sortOf_27 rfl ?_
      refine hr_gO 6 hC F8_0 rfl dX8_sortOf_28 q661 ?_
      refine hr_iload_n hC dX8_sortOf_31 rfl ?_
      obtain ⟨r90, e91, h⟩ := hx_bind h
      refine hs_callV0 hC 6 [_] _ dX8_sortOf_32 q1585 q1586 q1587 q320 q1588 np_X6 rfl OB_6 pd_X6_value (Nat.le_of_ble_eq_true rfl) hd1 (okX6_value l E A (d - 1)  (by omega)  e91 am) rfl ?_
      obtain ⟨r94, e95, h⟩ := hx_bind h
      refine hs_callV0 hC 10 [_] _ dX8_sortOf_35 q1630 q1631 q1632 q324 q1633 np_X10 rfl OB_10 pd_X10_find (Nat.le_of_ble_eq_true rfl) hd1 (okX10_find l E A (d - 1)  (by omega)  e95 am) rfl ?_
      refine hr_istore_n hC dX8_sortOf_38 (by decide) ?_
      refine hr_iload_n hC dX8_sortOf_39 rfl ?_
      refine hr_iconst (v := (-1)) hC dX8_sortOf_40 rfl ?_
      obtain ⟨r100, e101, h⟩ := hx_bind h
      have J102 : hc_At hc_V0 E 6 X 77 [] [.int r100] σ am [] := by
        obtain rfl := Option.some.inj h
        exact hr_iret hC dX8_sortOf_77
      clear h
      have h := e101
      refine hr_icmp_eq (x := _) hC 56 dX8_sortOf_41 (by decide) (fun c99 => ?_) (fun c99 => ?_)
      · rw [if_pos c99] at h
        refine hr_iconst (v := 2) hC dX8_sortOf_56 rfl ?_
        refine hr_goto hC 77 dX8_sortOf_57 (by decide) ?_
        obtain rfl := Option.some.inj h
        exact hr_sub _ rfl (J102)
      · rw [if_neg c99] at h
        refine hr_aload_n hC dX8_sortOf_44 rfl ?_
        refine hr_gO 10 hC F8_4 rfl dX8_sortOf_45 q665 ?_
        refine hr_iload_n hC dX8_sortOf_48 rfl ?_
        obtain ⟨r104, e105, h⟩ := hx_bind h
        refine hs_callV0 hC 10 [_] _ dX8_sortOf_49 q1634 q1635 q1636 q324 q1637 np_X10 rfl OB_10 pd_X10_sort (Nat.le_of_ble_eq_true rfl) hd1 (okX10_sort l E A (d - 1)  (by omega)  e105 am) rfl ?_
        refine hr_iconst (v := 2) hC dX8_sortOf_52 rfl ?_
        refine hr_icmp_ne (x := _) hC 60 dX8_sortOf_53 (by decide) (fun c109 => ?_) (fun c109 => ?_)
        · rw [if_neg c109] at h
          refine hr_aload_n hC dX8_sortOf_60 rfl ?_
          refine hr_gO 10 hC F8_4 rfl dX8_sortOf_61 q665 ?_
          refine hr_iload_n hC dX8_sortOf_64 rfl ?_
          obtain ⟨r110, e111, h⟩ := hx_bind h
          refine hs_callV0 hC 10 [_] _ dX8_sortOf_65 q1634 q1635 q1636 q324 q1637 np_X10 rfl OB_10 pd_X10_sort (Nat.le_of_ble_eq_true rfl) hd1 (okX10_sort l E A (d - 1)  (by omega)  e111 am) rfl ?_
          refine hr_iconst (v := 3) hC dX8_sortOf_68 rfl ?_
          refine hr_icmp_ne (x := _) hC 76 dX8_sortOf_69 (by decide) (fun c115 => ?_) (fun c115 => ?_)
          · rw [if_neg c115] at h
            refine hr_iconst (v := 0) hC dX8_sortOf_76 rfl ?_
            obtain rfl := Option.some.inj h
            exact hr_sub _ rfl (J102)
          · rw [if_pos c115] at h
            refine hr_iconst (v := 1) hC dX8_sortOf_72 rfl ?_
            refine hr_goto hC 77 dX8_sortOf_73 (by decide) ?_
            obtain rfl := Option.some.inj h
            exact hr_sub _ rfl (J102)
        · rw [if_pos c109] at h
          refine hr_iconst (v := 2) hC dX8_sortOf_56 rfl ?_
          refine hr_goto hC 77 dX8_sortOf_57 (by decide) ?_
          obtain rfl := Option.some.inj h
          exact hr_sub _ rfl (J102)
  · rw [if_pos c6] at h
    refine hr_iconst (v := 1) hC dX8_sortOf_15 rfl ?_
    obtain rfl := Option.some.inj h
    exact hr_iret hC dX8_sortOf_16
def rc_X8_sortOf (n : Nat) (k0 : Nat) : Nat → Nat → List Int32 → hc_St → Option (Int32 × hc_St)
  | 0, _, _, _ => none
  | k + 1, w, a, σ => match w with
    | 0 => bd_X8_sortOf n k0 (rc_X8_sortOf n k0 k) (a.getD 0 0) σ
    | _ => none
theorem okr_X8_sortOf (l : Launch) (E : hc_E) (A : Nat → Prop) (n : Nat) (k0 : Nat) : ∀ (k d : Nat), k + 2 ≤ d → ∀ (w : Nat) (a : List Int32) (σ : hc_St) (r : (Int32 × hc_St)), rc_X8_sortOf n k0 k w a σ = some r → ∀ am, okg_X8_sortOf l E A d am w a σ r
  | 0, d, _, w, a, σ, r, h, am => by cases h
  | k + 1, d, hd, w, a, σ, r, h, am => by
    have IH := okr_X8_sortOf l E A n k0 k (d - 1) (by omega)
    match w, h with
    | 0, h => exact okbX8_sortOf l E A d (kk := k) n k0 (rc_X8_sortOf n k0 k) (by omega) IH h am
    | w + 1, h => trivial
def fm_X8_sortOf (n : Nat) (k0 : Nat) (x1 : Int32) (σ : hc_St) : Option (Int32 × hc_St) := rc_X8_sortOf n k0 k0 0 [x1] σ
theorem okX8_sortOf (l : Launch) (E : hc_E) (A : Nat → Prop) (d : Nat) (n : Nat) (k0 : Nat) (hD : k0 + 2 ≤ d)  {x1 : Int32} {σ : hc_St} {r : (Int32 × hc_St)} (h : fm_X8_sortOf n k0 x1 σ = some r) (am : Nat → Nat → Nat) : hc_M l hc_V0 yX8_sortOf (ws_ yX8_sortOf cX8_sortOf 6 (some .int)) d E A [.ref (E.2.1 8), .int x1] am [] σ (.inl (some (.int r.1))) r.2 := okr_X8_sortOf l E A n k0 k0 d hD 0 _ _ _ h am
/-- HomeCompiler$Checker.truth(Z)I -/
def fm_X8_truth  (x0 : Int32) (σ : hc_St) : Option Int32 := hl (α := Int32) ((if x0 = 0 then 0 else 1)) fun v3 => some v3
set_option maxRecDepth 20000 in
set_option maxHeartbeats 4000000 in
theorem okX8_truth (l : Launch) (E : hc_E) (A : Nat → Prop) (d : Nat)  (hD : 1 ≤ d) {x0 : Int32} {σ : hc_St} {r : Int32} (h : fm_X8_truth  x0 σ = some r) (am : Nat → Nat → Nat) : hc_M l hc_V0 yX8_truth (ws_ yX8_truth cX8_truth 1 (some .int)) d E A [.int x0] am [] σ (.inl (some (.int r))) σ := by
  have hd1 : 1 ≤ d := by omega
  refine hc_enter2 (own := RX8) [(0, .int x0)] pl_X8 rfl hc_V0_st hc_G0_nd rfl (Nat.le_of_ble_eq_true rfl) (fun X hC hem => ?_)
  unfold fm_X8_truth at h
  refine hr_iload_n hC dX8_truth_0 rfl ?_
  obtain ⟨v3, hv3, h⟩ := hl_ok h
  have J4 : ∀ w5 : Int32, (if x0 = 0 then 0 else 1) = w5 → hc_At hc_V0 E 1 X 9 [] [.int w5] σ am [] := by
    intro w5 hw5
    obtain rfl := hv3.trans hw5
    obtain rfl := Option.some.inj h
    exact hr_iret hC dX8_truth_9
  refine hr_if_eq (x := _) hC 8 dX8_truth_1 (by decide) (fun c6 => ?_) (fun c6 => ?_)
  · refine hr_iconst (v := 0) hC dX8_truth_8 rfl ?_
    exact hr_sub _ rfl (J4 _ (by first | (rw [if_pos c6]; done) | (simp only [if_pos c6]; done) | rfl))
  · refine hr_iconst (v := 1) hC dX8_truth_4 rfl ?_
    refine hr_goto hC 9 dX8_truth_5 (by decide) ?_
    exact hr_sub _ rfl (J4 _ (by first | (rw [if_neg c6]; done) | (simp only [if_neg c6]; done) | rfl))
/-- HomeCompiler$Checker.divide(III)I -/
def fm_X8_divide  (x1 : Int32) (x2 : Int32) (x3 : Int32) (σ : hc_St) : Option (Int32 × hc_St) := hl (α := Int32) ((if x3 = 0 then 1 else 0)) fun v3 => hk (hb01 ((((gI σ 8 14)) ||| v3))) <| hl (pI σ 8 14 ((((gI σ 8 14)) ||| v3))) fun σ4 => Option.bind (α := Int32) (if x3 = 0 then (some (0)) else (if x1 = 47 then (hk (decide (¬ x3 = 0)) <| some ((x2 / x3))) else (hk (decide (¬ x3 = 0)) <| some ((jrem x2 x3))))) fun r8 => some (r8, σ4)
set_option maxRecDepth 20000 in
set_option maxHeartbeats 4000000 in
theorem okX8_divide (l : Launch) (E : hc_E) (A : Nat → Prop) (d : Nat)  (hD : 1 ≤ d) {x1 : Int32} {x2 : Int32} {x3 : Int32} {σ : hc_St} {r : (Int32 × hc_St)} (h : fm_X8_divide  x1 x2 x3 σ = some r) (am : Nat → Nat → Nat) : hc_M l hc_V0 yX8_divide (ws_ yX8_divide cX8_divide 4 (some .int)) d E A [.ref (E.2.1 8), .int x1, .int x2, .int x3] am [] σ (.inl (some (.int r.1))) r.2 := by
  have hd1 : 1 ≤ d := by omega
  refine hc_enter2 (own := RX8) [(0, .ref (E.2.1 8)), (1, .int x1), (2, .int x2), (3, .int x3)] pl_X8 rfl hc_V0_st hc_G0_nd rfl (Nat.le_of_ble_eq_true rfl) (fun X hC hem => ?_)
  unfold fm_X8_divide at h
  refine hr_aload_n hC dX8_divide_0 rfl ?_
  refine hr_dup hC dX8_divide_1 rfl ?_
  refine hr_gI hC F8_14 dX8_divide_2 q675 ?_
  refine hr_iload_n hC dX8_divide_5 rfl ?_
  obtain ⟨v3, hv3, h⟩ := hl_ok h
  have J16 : ∀ w17 : Int32, (if x3 = 0 then 1 else 0) = w17 → hc_At hc_V0 E 4 X 14 [(1, .int x1), (2, .int x2), (3, .int x3)] [.int w17, .int (gI σ 8 14), .ref (E.2.1 8)] σ am [] := by
    intro w17 hw17
    obtain rfl := hv3.trans hw17
    refine hr_ior hC dX8_divide_14 ?_
    obtain ⟨c5, h⟩ := hk_ok h
    obtain ⟨σ4, hσ4, h⟩ := hl_ok h
    refine hr_pZ hC F8_14 PX8_14 c5 dX8_divide_15 q675 ?_
    rw [← hσ4]
    refine hr_iload_n hC dX8_divide_18 rfl ?_
    obtain ⟨r8, e9, h⟩ := hx_bind h
    have J10 : hc_At hc_V0 E 4 X 41 [] [.int r8] σ4 am [] := by
      obtain rfl := Option.some.inj h
      exact hr_iret hC dX8_divide_41
    clear h
    have h := e9
    refine hr_if_ne (x := _) hC 26 dX8_divide_19 (by decide) (fun c7 => ?_) (fun c7 => ?_)
    · rw [if_neg c7] at h
      refine hr_iload_n hC dX8_divide_26 rfl ?_
      refine hr_bipush (v := 47) hC dX8_divide_27 rfl ?_
      refine hr_icmp_ne (x := _) hC 38 dX8_divide_29 (by decide) (fun c13 => ?_) (fun c13 => ?_)
      · rw [if_neg c13] at h
        refine hr_iload_n hC dX8_divide_38 rfl ?_
        refine hr_iload_n hC dX8_divide_39 rfl ?_
        obtain ⟨c14, h⟩ := hk_ok h
        refine hr_irem hC dX8_divide_40 (of_decide_eq_true c14) ?_
        obtain rfl := Option.some.inj h
        exact hr_sub _ rfl (J10)
      · rw [if_pos c13] at h
        refine hr_iload_n hC dX8_divide_32 rfl ?_
        refine hr_iload_n hC dX8_divide_33 rfl ?_
        obtain ⟨c15, h⟩ := hk_ok h
        refine hr_idiv hC dX8_divide_34 (of_decide_eq_true c15) ?_
        refine hr_goto hC 41 dX8_divide_35 (by decide) ?_
        obtain rfl := Option.some.inj h
        exact hr_sub _ rfl (J10)
    · rw [if_pos c7] at h
      refine hr_iconst (v := 0) hC dX8_divide_22 rfl ?_
      refine hr_goto hC 41 dX8_divide_23 (by decide) ?_
      obtain rfl := Option.some.inj h
      exact hr_sub _ rfl (J10)
  refine hr_if_ne (x := _) hC 13 dX8_divide_6 (by decide) (fun c18 => ?_) (fun c18 => ?_)
  · refine hr_iconst (v := 0) hC dX8_divide_13 rfl ?_
    exact hr_sub _ rfl (J16 _ (by first | (rw [if_neg c18]; done) | (simp only [if_neg c18]; done) | rfl))
  · refine hr_iconst (v := 1) hC dX8_divide_9 rfl ?_
    refine hr_goto hC 14 dX8_divide_10 (by decide) ?_
    exact hr_sub _ rfl (J16 _ (by first | (rw [if_pos c18]; done) | (simp only [if_pos c18]; done) | rfl))
/-- HomeCompiler$Checker.reckon(III)I -/
def fm_X8_reckon  (x1 : Int32) (x2 : Int32) (x3 : Int32) (σ : hc_St) : Option (Int32 × hc_St) := if x1 = 38 then (some ((x2 &&& x3), σ)) else if x1 = 42 then (some ((x2 * x3), σ)) else if x1 = 43 then (some ((x2 + x3), σ)) else if x1 = 45 then (some ((x2 - x3), σ)) else if x1 = 60 then (hl (α := Int32) ((if x3 ≤ x2 then 0 else 1)) fun v7 => Option.bind (fm_X8_truth v7 σ) fun r8 => some (r8, σ)) else if x1 = 62 then (hl (α := Int32) ((if x2 ≤ x3 then 0 else 1)) fun v17 => Option.bind (fm_X8_truth v17 σ) fun r18 => some (r18, σ)) else if x1 = 94 then (some ((x2 ^^^ x3), σ)) else if x1 = 124 then (some ((x2 ||| x3), σ)) else if x1 = 130 then (hl (α := Int32) ((if x2 = x3 then 1 else 0)) fun v27 => Option.bind (fm_X8_truth v27 σ) fun r28 => some (r28, σ)) else if x1 = 131 then (hl (α := Int32) ((if x2 = x3 then 0 else 1)) fun v37 => Option.bind (fm_X8_truth v37 σ) fun r38 => some (r38, σ)) else if x1 = 132 then (hl (α := Int32) ((if x3 < x2 then 0 else 1)) fun v47 => Option.bind (fm_X8_truth v47 σ) fun r48 => some (r48, σ)) else if x1 = 133 then (hl (α := Int32) ((if x2 < x3 then 0 else 1)) fun v57 => Option.bind (fm_X8_truth v57 σ) fun r58 => some (r58, σ)) else if x1 = 134 then (some ((jshl x2 x3), σ)) else if x1 = 135 then (some ((jshr x2 x3), σ)) else (Option.bind (fm_X8_divide x1 x2 x3 σ) fun r1 => some (r1.1, r1.2))
set_option maxRecDepth 20000 in
set_option maxHeartbeats 4000000 in
theorem okX8_reckon (l : Launch) (E : hc_E) (A : Nat → Prop) (d : Nat)  (hD : 2 ≤ d) {x1 : Int32} {x2 : Int32} {x3 : Int32} {σ : hc_St} {r : (Int32 × hc_St)} (h : fm_X8_reckon  x1 x2 x3 σ = some r) (am : Nat → Nat → Nat) : hc_M l hc_V0 yX8_reckon (ws_ yX8_reckon cX8_reckon 4 (some .int)) d E A [.ref (E.2.1 8), .int x1, .int x2, .int x3] am [] σ (.inl (some (.int r.1))) r.2 := by
  have hd1 : 1 ≤ d := by omega
  refine hc_enter2 (own := RX8) [(0, .ref (E.2.1 8)), (1, .int x1), (2, .int x2), (3, .int x3)] pl_X8 rfl hc_V0_st hc_G0_nd rfl (Nat.le_of_ble_eq_true rfl) (fun X hC hem => ?_)
  unfold fm_X8_reckon at h
  refine hr_iload_n hC dX8_reckon_0 rfl ?_
  by_cases c65 : x1 = 38
  · rw [if_pos c65] at h
    refine hr_lookup hC 132 dX8_reckon_1 (by decide) (by rw [c65] <;> rfl) (by decide) ?_
    refine hr_iload_n hC dX8_reckon_132 rfl ?_
    refine hr_iload_n hC dX8_reckon_133 rfl ?_
    refine hr_iand hC dX8_reckon_134 ?_
    obtain rfl := Option.some.inj h
    exact hr_iret hC dX8_reckon_135
  rw [if_neg c65] at h
  by_cases c66 : x1 = 42
  · rw [if_pos c66] at h
    refine hr_lookup hC 236 dX8_reckon_1 (by decide) (by rw [c66] <;> rfl) (by decide) ?_
    refine hr_iload_n hC dX8_reckon_236 rfl ?_
    refine hr_iload_n hC dX8_reckon_237 rfl ?_
    refine hr_imul hC dX8_reckon_238 ?_
    obtain rfl := Option.some.inj h
    exact hr_iret hC dX8_reckon_239
  rw [if_neg c66] at h
  by_cases c67 : x1 = 43
  · rw [if_pos c67] at h
    refine hr_lookup hC 228 dX8_reckon_1 (by decide) (by rw [c67] <;> rfl) (by decide) ?_
    refine hr_iload_n hC dX8_reckon_228 rfl ?_
    refine hr_iload_n hC dX8_reckon_229 rfl ?_
    refine hr_iadd hC dX8_reckon_230 ?_
    obtain rfl := Option.some.inj h
    exact hr_iret hC dX8_reckon_231
  rw [if_neg c67] at h
  by_cases c68 : x1 = 45
  · rw [if_pos c68] at h
    refine hr_lookup hC 232 dX8_reckon_1 (by decide) (by rw [c68] <;> rfl) (by decide) ?_
    refine hr_iload_n hC dX8_reckon_232 rfl ?_
    refine hr_iload_n hC dX8_reckon_233 rfl ?_
    refine hr_isub hC dX8_reckon_234 ?_
    obtain rfl := Option.some.inj h
    exact hr_iret hC dX8_reckon_235
  rw [if_neg c68] at h
  by_cases c69 : x1 = 60
  · rw [if_pos c69] at h
    refine hr_lookup hC 164 dX8_reckon_1 (by decide) (by rw [c69] <;> rfl) (by decide) ?_
    refine hr_iload_n hC dX8_reckon_164 rfl ?_
    refine hr_iload_n hC dX8_reckon_165 rfl ?_
    obtain ⟨v7, hv7, h⟩ := hl_ok h
    have J12 : ∀ w13 : Int32, (if x3 ≤ x2 then 0 else 1) = w13 → hc_At hc_V0 E 4 X 174 [] [.int w13] σ am [] := by
      intro w13 hw13
      obtain rfl := hv7.trans hw13
      obtain ⟨r8, e9, h⟩ := hx_bind h
      refine hs_callS0 hC [_] _ dX8_reckon_174 q1715 q1716 q322 q1717 np_X8 rfl pd_X8_truth (Nat.le_of_ble_eq_true rfl) hd1 (okX8_truth l E A (d - 1)  (by omega)  e9 am) rfl ?_
      obtain rfl := Option.some.inj h
      exact hr_iret hC dX8_reckon_177
    refine hr_icmp_ge (x := _) hC 173 dX8_reckon_166 (by decide) (fun c14 => ?_) (fun c14 => ?_)
    · refine hr_iconst (v := 0) hC dX8_reckon_173 rfl ?_
      exact hr_sub _ rfl (J12 _ (by first | (rw [if_pos c14]; done) | (simp only [if_pos c14]; done) | rfl))
    · refine hr_iconst (v := 1) hC dX8_reckon_169 rfl ?_
      refine hr_goto hC 174 dX8_reckon_170 (by decide) ?_
      exact hr_sub _ rfl (J12 _ (by first | (rw [if_neg c14]; done) | (simp only [if_neg c14]; done) | rfl))
  rw [if_neg c69] at h
  by_cases c70 : x1 = 62
  · rw [if_pos c70] at h
    refine hr_lookup hC 178 dX8_reckon_1 (by decide) (by rw [c70] <;> rfl) (by decide) ?_
    refine hr_iload_n hC dX8_reckon_178 rfl ?_
    refine hr_iload_n hC dX8_reckon_179 rfl ?_
    obtain ⟨v17, hv17, h⟩ := hl_ok h
    have J22 : ∀ w23 : Int32, (if x2 ≤ x3 then 0 else 1) = w23 → hc_At hc_V0 E 4 X 188 [] [.int w23] σ am [] := by
      intro w23 hw23
      obtain rfl := hv17.trans hw23
      obtain ⟨r18, e19, h⟩ := hx_bind h
      refine hs_callS0 hC [_] _ dX8_reckon_188 q1715 q1716 q322 q1717 np_X8 rfl pd_X8_truth (Nat.le_of_ble_eq_true rfl) hd1 (okX8_truth l E A (d - 1)  (by omega)  e19 am) rfl ?_
      obtain rfl := Option.some.inj h
      exact hr_iret hC dX8_reckon_191
    refine hr_icmp_le (x := _) hC 187 dX8_reckon_180 (by decide) (fun c24 => ?_) (fun c24 => ?_)
    · refine hr_iconst (v := 0) hC dX8_reckon_187 rfl ?_
      exact hr_sub _ rfl (J22 _ (by first | (rw [if_pos c24]; done) | (simp only [if_pos c24]; done) | rfl))
    · refine hr_iconst (v := 1) hC dX8_reckon_183 rfl ?_
      refine hr_goto hC 188 dX8_reckon_184 (by decide) ?_
      exact hr_sub _ rfl (J22 _ (by first | (rw [if_neg c24]; done) | (simp only [if_neg c24]; done) | rfl))
  rw [if_neg c70] at h
  by_cases c71 : x1 = 94
  · rw [if_pos c71] at h
    refine hr_lookup hC 128 dX8_reckon_1 (by decide) (by rw [c71] <;> rfl) (by decide) ?_
    refine hr_iload_n hC dX8_reckon_128 rfl ?_
    refine hr_iload_n hC dX8_reckon_129 rfl ?_
    refine hr_ixor hC dX8_reckon_130 ?_
    obtain rfl := Option.some.inj h
    exact hr_iret hC dX8_reckon_131
  rw [if_neg c71] at h
  by_cases c72 : x1 = 124
  · rw [if_pos c72] at h
    refine hr_lookup hC 124 dX8_reckon_1 (by decide) (by rw [c72] <;> rfl) (by decide) ?_
    refine hr_iload_n hC dX8_reckon_124 rfl ?_
    refine hr_iload_n hC dX8_reckon_125 rfl ?_
    refine hr_ior hC dX8_reckon_126 ?_
    obtain rfl := Option.some.inj h
    exact hr_iret hC dX8_reckon_127
  rw [if_neg c72] at h
  by_cases c73 : x1 = 130
  · rw [if_pos c73] at h
    refine hr_lookup hC 136 dX8_reckon_1 (by decide) (by rw [c73] <;> rfl) (by decide) ?_
    refine hr_iload_n hC dX8_reckon_136 rfl ?_
    refine hr_iload_n hC dX8_reckon_137 rfl ?_
    obtain ⟨v27, hv27, h⟩ := hl_ok h
    have J32 : ∀ w33 : Int32, (if x2 = x3 then 1 else 0) = w33 → hc_At hc_V0 E 4 X 146 [] [.int w33] σ am [] := by
      intro w33 hw33
      obtain rfl := hv27.trans hw33
      obtain ⟨r28, e29, h⟩ := hx_bind h
      refine hs_callS0 hC [_] _ dX8_reckon_146 q1715 q1716 q322 q1717 np_X8 rfl pd_X8_truth (Nat.le_of_ble_eq_true rfl) hd1 (okX8_truth l E A (d - 1)  (by omega)  e29 am) rfl ?_
      obtain rfl := Option.some.inj h
      exact hr_iret hC dX8_reckon_149
    refine hr_icmp_ne (x := _) hC 145 dX8_reckon_138 (by decide) (fun c34 => ?_) (fun c34 => ?_)
    · refine hr_iconst (v := 0) hC dX8_reckon_145 rfl ?_
      exact hr_sub _ rfl (J32 _ (by first | (rw [if_neg c34]; done) | (simp only [if_neg c34]; done) | rfl))
    · refine hr_iconst (v := 1) hC dX8_reckon_141 rfl ?_
      refine hr_goto hC 146 dX8_reckon_142 (by decide) ?_
      exact hr_sub _ rfl (J32 _ (by first | (rw [if_pos c34]; done) | (simp only [if_pos c34]; done) | rfl))
  rw [if_neg c73] at h
  by_cases c74 : x1 = 131
  · rw [if_pos c74] at h
    refine hr_lookup hC 150 dX8_reckon_1 (by decide) (by rw [c74] <;> rfl) (by decide) ?_
    refine hr_iload_n hC dX8_reckon_150 rfl ?_
    refine hr_iload_n hC dX8_reckon_151 rfl ?_
    obtain ⟨v37, hv37, h⟩ := hl_ok h
    have J42 : ∀ w43 : Int32, (if x2 = x3 then 0 else 1) = w43 → hc_At hc_V0 E 4 X 160 [] [.int w43] σ am [] := by
      intro w43 hw43
      obtain rfl := hv37.trans hw43
      obtain ⟨r38, e39, h⟩ := hx_bind h
      refine hs_callS0 hC [_] _ dX8_reckon_160 q1715 q1716 q322 q1717 np_X8 rfl pd_X8_truth (Nat.le_of_ble_eq_true rfl) hd1 (okX8_truth l E A (d - 1)  (by omega)  e39 am) rfl ?_
      obtain rfl := Option.some.inj h
      exact hr_iret hC dX8_reckon_163
    refine hr_icmp_eq (x := _) hC 159 dX8_reckon_152 (by decide) (fun c44 => ?_) (fun c44 => ?_)
    · refine hr_iconst (v := 0) hC dX8_reckon_159 rfl ?_
      exact hr_sub _ rfl (J42 _ (by first | (rw [if_pos c44]; done) | (simp only [if_pos c44]; done) | rfl))
    · refine hr_iconst (v := 1) hC dX8_reckon_155 rfl ?_
      refine hr_goto hC 160 dX8_reckon_156 (by decide) ?_
      exact hr_sub _ rfl (J42 _ (by first | (rw [if_neg c44]; done) | (simp only [if_neg c44]; done) | rfl))
  rw [if_neg c74] at h
  by_cases c75 : x1 = 132
  · rw [if_pos c75] at h
    refine hr_lookup hC 192 dX8_reckon_1 (by decide) (by rw [c75] <;> rfl) (by decide) ?_
    refine hr_iload_n hC dX8_reckon_192 rfl ?_
    refine hr_iload_n hC dX8_reckon_193 rfl ?_
    obtain ⟨v47, hv47, h⟩ := hl_ok h
    have J52 : ∀ w53 : Int32, (if x3 < x2 then 0 else 1) = w53 → hc_At hc_V0 E 4 X 202 [] [.int w53] σ am [] := by
      intro w53 hw53
      obtain rfl := hv47.trans hw53
      obtain ⟨r48, e49, h⟩ := hx_bind h
      refine hs_callS0 hC [_] _ dX8_reckon_202 q1715 q1716 q322 q1717 np_X8 rfl pd_X8_truth (Nat.le_of_ble_eq_true rfl) hd1 (okX8_truth l E A (d - 1)  (by omega)  e49 am) rfl ?_
      obtain rfl := Option.some.inj h
      exact hr_iret hC dX8_reckon_205
    refine hr_icmp_gt (x := _) hC 201 dX8_reckon_194 (by decide) (fun c54 => ?_) (fun c54 => ?_)
    · refine hr_iconst (v := 0) hC dX8_reckon_201 rfl ?_
      exact hr_sub _ rfl (J52 _ (by first | (rw [if_pos c54]; done) | (simp only [if_pos c54]; done) | rfl))
    · refine hr_iconst (v := 1) hC dX8_reckon_197 rfl ?_
      refine hr_goto hC 202 dX8_reckon_198 (by decide) ?_
      exact hr_sub _ rfl (J52 _ (by first | (rw [if_neg c54]; done) | (simp only [if_neg c54]; done) | rfl))
  rw [if_neg c75] at h
  by_cases c76 : x1 = 133
  · rw [if_pos c76] at h
    refine hr_lookup hC 206 dX8_reckon_1 (by decide) (by rw [c76] <;> rfl) (by decide) ?_
    refine hr_iload_n hC dX8_reckon_206 rfl ?_
    refine hr_iload_n hC dX8_reckon_207 rfl ?_
    obtain ⟨v57, hv57, h⟩ := hl_ok h
    have J62 : ∀ w63 : Int32, (if x2 < x3 then 0 else 1) = w63 → hc_At hc_V0 E 4 X 216 [] [.int w63] σ am [] := by
      intro w63 hw63
      obtain rfl := hv57.trans hw63
      obtain ⟨r58, e59, h⟩ := hx_bind h
      refine hs_callS0 hC [_] _ dX8_reckon_216 q1715 q1716 q322 q1717 np_X8 rfl pd_X8_truth (Nat.le_of_ble_eq_true rfl) hd1 (okX8_truth l E A (d - 1)  (by omega)  e59 am) rfl ?_
      obtain rfl := Option.some.inj h
      exact hr_iret hC dX8_reckon_219
    refine hr_icmp_lt (x := _) hC 215 dX8_reckon_208 (by decide) (fun c64 => ?_) (fun c64 => ?_)
    · refine hr_iconst (v := 0) hC dX8_reckon_215 rfl ?_
      exact hr_sub _ rfl (J62 _ (by first | (rw [if_pos c64]; done) | (simp only [if_pos c64]; done) | rfl))
    · refine hr_iconst (v := 1) hC dX8_reckon_211 rfl ?_
      refine hr_goto hC 216 dX8_reckon_212 (by decide) ?_
      exact hr_sub _ rfl (J62 _ (by first | (rw [if_neg c64]; done) | (simp only [if_neg c64]; done) | rfl))
  rw [if_neg c76] at h
  by_cases c77 : x1 = 134
  · rw [if_pos c77] at h
    refine hr_lookup hC 220 dX8_reckon_1 (by decide) (by rw [c77] <;> rfl) (by decide) ?_
    refine hr_iload_n hC dX8_reckon_220 rfl ?_
    refine hr_iload_n hC dX8_reckon_221 rfl ?_
    refine hr_ishl hC dX8_reckon_222 ?_
    obtain rfl := Option.some.inj h
    exact hr_iret hC dX8_reckon_223
  rw [if_neg c77] at h
  by_cases c78 : x1 = 135
  · rw [if_pos c78] at h
    refine hr_lookup hC 224 dX8_reckon_1 (by decide) (by rw [c78] <;> rfl) (by decide) ?_
    refine hr_iload_n hC dX8_reckon_224 rfl ?_
    refine hr_iload_n hC dX8_reckon_225 rfl ?_
    refine hr_ishr hC dX8_reckon_226 ?_
    obtain rfl := Option.some.inj h
    exact hr_iret hC dX8_reckon_227
  rw [if_neg c78] at h
  refine hr_lookup hC 240 dX8_reckon_1 (by decide) (hc_lkD (hc_l1 (hc_ne c65 rfl) (hc_l1 (hc_ne c66 rfl) (hc_l1 (hc_ne c67 rfl) (hc_l1 (hc_ne c68 rfl) (hc_l1 (hc_ne c69 rfl) (hc_l1 (hc_ne c70 rfl) (hc_l1 (hc_ne c71 rfl) (hc_l1 (hc_ne c72 rfl) (hc_l1 (hc_ne c73 rfl) (hc_l1 (hc_ne c74 rfl) (hc_l1 (hc_ne c75 rfl) (hc_l1 (hc_ne c76 rfl) (hc_l1 (hc_ne c77 rfl) (hc_l1 (hc_ne c78 rfl) hc_l0))))))))))))))) (by decide) ?_
  refine hr_aload_n hC dX8_reckon_240 rfl ?_
  refine hr_iload_n hC dX8_reckon_241 rfl ?_
  refine hr_iload_n hC dX8_reckon_242 rfl ?_
  refine hr_iload_n hC dX8_reckon_243 rfl ?_
  obtain ⟨r1, e2, h⟩ := hx_bind h
  refine hs_callV0 hC 8 [_, _, _] _ dX8_reckon_244 q1718 q1720 qs74 q322 q1721 np_X8 rfl OB_8 pd_X8_divide (Nat.le_of_ble_eq_true rfl) hd1 (okX8_divide l E A (d - 1)  (by omega)  e2 am) rfl ?_
  obtain rfl := Option.some.inj h
  exact hr_iret hC dX8_reckon_247
def okg_X8_valueOf (l : Launch) (E : hc_E) (A : Nat → Prop) (d : Nat) (am : Nat → Nat → Nat) (w : Nat) (a : List Int32) (σ : hc_St) (r : (Int32 × hc_St)) : Prop := match w with
  | 0 => hc_M l hc_V0 yX8_valueOf (ws_ yX8_valueOf cX8_valueOf 4 (some .int)) d E A [.ref (E.2.1 8), .int (a.getD 0 0)] am [] σ (.inl (some (.int r.1))) r.2
  | 1 => hc_M l hc_V0 yX8_valueOfChain (ws_ yX8_valueOfChain cX8_valueOfChain 6 (some .int)) d E A [.ref (E.2.1 8), .int (a.getD 0 0)] am [] σ (.inl (some (.int r.1))) r.2
  | _ => True
/-- HomeCompiler$Checker.valueOf(I)I -/
def bd_X8_valueOf (n : Nat) (k0 : Nat) (rec : Nat → List Int32 → hc_St → Option (Int32 × hc_St)) (x1 : Int32) (σ : hc_St) : Option (Int32 × hc_St) := Option.bind (fm_X6_first x1 σ) fun r1 => Option.bind (fm_X6_kind x1 σ) fun r5 => if r5 = 31 then (Option.bind (rec 0 [r1] σ) fun r13 => Option.bind (α := Int32) (if r13.1 = 0 then (Option.bind (fm_X6_next r1 r13.2) fun r23 => Option.bind (fm_X6_next r23 r13.2) fun r27 => some (r27)) else (Option.bind (fm_X6_next r1 r13.2) fun r31 => some (r31))) fun r19 => Option.bind (rec 0 [r19] r13.2) fun r35 => some (r35.1, r35.2)) else if r5 = 34 then (Option.bind (rec 0 [r1] σ) fun r39 => Option.bind (fm_X6_op x1 r39.2) fun r43 => Option.bind (α := Int32) (if r43 = 43 then (some (r39.1)) else (Option.bind (fm_X6_op x1 r39.2) fun r53 => if r53 = 45 then (some ((-r39.1))) else (Option.bind (fm_X6_op x1 r39.2) fun r59 => if r59 = 126 then (some ((r39.1 ^^^ ((-1))))) else (if r39.1 = 0 then (some (1)) else (some (0)))))) fun r49 => some (r49, r39.2)) else if r5 = 37 then (Option.bind (fm_X6_value x1 σ) fun r67 => some (r67, σ)) else if r5 = 38 then (Option.bind (fm_X6_value x1 σ) fun r71 => Option.bind (fm_X10_find r71 σ) fun r75 => Option.bind (fm_X10_value r75 σ) fun r79 => some (r79, σ)) else (Option.bind (rec 1 [x1] σ) fun r9 => some (r9.1, r9.2))
set_option maxRecDepth 20000 in
set_option maxHeartbeats 4000000 in
theorem okbX8_valueOf (l : Launch) (E : hc_E) (A : Nat → Prop) (d : Nat) {kk : Nat} (n : Nat) (k0 : Nat) (rec : Nat → List Int32 → hc_St → Option (Int32 × hc_St)) (hD : kk + 3 ≤ d) (IH : ∀ (w : Nat) (a : List Int32) (σ : hc_St) (r : (Int32 × hc_St)), rec w a σ = some r → ∀ am, okg_X8_valueOf l E A (d - 1) am w a σ r) {x1 : Int32} {σ : hc_St} {r : (Int32 × hc_St)} (h : bd_X8_valueOf n k0 rec x1 σ = some r) (am : Nat → Nat → Nat) : hc_M l hc_V0 yX8_valueOf (ws_ yX8_valueOf cX8_valueOf 4 (some .int)) d E A [.ref (E.2.1 8), .int x1] am [] σ (.inl (some (.int r.1))) r.2 := by
  have hd1 : 1 ≤ d := by omega
  refine hc_enter2 (own := RX8) [(0, .ref (E.2.1 8)), (1, .int x1)] pl_X8 rfl hc_V0_st hc_G0_nd rfl (Nat.le_of_ble_eq_true rfl) (fun X hC hem => ?_)
  unfold bd_X8_valueOf at h
  refine hr_aload_n hC dX8_valueOf_0 rfl ?_
  refine hr_gO 6 hC F8_0 rfl dX8_valueOf_1 q661 ?_
  refine hr_iload_n hC dX8_valueOf_4 rfl ?_
  obtain ⟨r1, e2, h⟩ := hx_bind h
  refine hs_callV0 hC 6 [_] _ dX8_valueOf_5 q1575 q1576 q1577 q320 q1578 np_X6 rfl OB_6 pd_X6_first (Nat.le_of_ble_eq_true rfl) hd1 (okX6_first l E A (d - 1)  (by omega)  e2 am) rfl ?_
  refine hr_istore_n hC dX8_valueOf_8 (by decide) ?_
  refine hr_aload_n hC dX8_valueOf_9 rfl ?_
  refine hr_gO 6 hC F8_0 rfl dX8_valueOf_10 q661 ?_
  refine hr_iload_n hC dX8_valueOf_13 rfl ?_
  obtain ⟨r5, e6, h⟩ := hx_bind h
  refine hs_callV0 hC 6 [_] _ dX8_valueOf_14 q1579 q1369 q1370 q320 q1371 np_X6 rfl OB_6 pd_X6_kind (Nat.le_of_ble_eq_true rfl) hd1 (okX6_kind l E A (d - 1)  (by omega)  e6 am) rfl ?_
  by_cases c83 : r5 = 31
  · rw [if_pos c83] at h
    refine hr_tableIn hC 166 dX8_valueOf_17 (by rw [c83] <;> decide) (by rw [c83] <;> decide) (by rw [c83] <;> rfl) (by decide) ?_
    refine hr_aload_n hC dX8_valueOf_166 rfl ?_
    refine hr_aload_n hC dX8_valueOf_167 rfl ?_
    refine hr_iload_n hC dX8_valueOf_168 rfl ?_
    obtain ⟨r13, e14, h⟩ := hx_bind h
    refine hs_callV0 hC 8 [_] _ dX8_valueOf_169 q1703 q1705 qs71 q322 q1706 np_X8 rfl OB_8 pd_X8_valueOf (Nat.le_of_ble_eq_true rfl) hd1 (IH _ _ _ _ e14 am) rfl ?_
    obtain ⟨r19, e20, h⟩ := hx_bind h
    have J21 : hc_At hc_V0 E 4 X 201 [] [.int r19, .ref (E.2.1 8)] r13.2 am [] := by
      obtain ⟨r35, e36, h⟩ := hx_bind h
      refine hs_callV0 hC 8 [_] _ dX8_valueOf_201 q1703 q1705 qs71 q322 q1706 np_X8 rfl OB_8 pd_X8_valueOf (Nat.le_of_ble_eq_true rfl) hd1 (IH _ _ _ _ e36 am) rfl ?_
      obtain rfl := Option.some.inj h
      exact hr_iret hC dX8_valueOf_204
    clear h
    have h := e20
    refine hr_if_eq (x := _) hC 186 dX8_valueOf_172 (by decide) (fun c18 => ?_) (fun c18 => ?_)
    · rw [if_pos c18] at h
      refine hr_aload_n hC dX8_valueOf_186 rfl ?_
      refine hr_gO 6 hC F8_0 rfl dX8_valueOf_187 q661 ?_
      refine hr_aload_n hC dX8_valueOf_190 rfl ?_
      refine hr_gO 6 hC F8_0 rfl dX8_valueOf_191 q661 ?_
      refine hr_iload_n hC dX8_valueOf_194 rfl ?_
      obtain ⟨r23, e24, h⟩ := hx_bind h
      refine hs_callV0 hC 6 [_] _ dX8_valueOf_195 q1602 q1603 q1604 q320 q1605 np_X6 rfl OB_6 pd_X6_next (Nat.le_of_ble_eq_true rfl) hd1 (okX6_next l E A (d - 1)  (by omega)  e24 am) rfl ?_
      obtain ⟨r27, e28, h⟩ := hx_bind h
      refine hs_callV0 hC 6 [_] _ dX8_valueOf_198 q1602 q1603 q1604 q320 q1605 np_X6 rfl OB_6 pd_X6_next (Nat.le_of_ble_eq_true rfl) hd1 (okX6_next l E A (d - 1)  (by omega)  e28 am) rfl ?_
      obtain rfl := Option.some.inj h
      exact hr_sub _ rfl (J21)
    · rw [if_neg c18] at h
      refine hr_aload_n hC dX8_valueOf_175 rfl ?_
      refine hr_gO 6 hC F8_0 rfl dX8_valueOf_176 q661 ?_
      refine hr_iload_n hC dX8_valueOf_179 rfl ?_
      obtain ⟨r31, e32, h⟩ := hx_bind h
      refine hs_callV0 hC 6 [_] _ dX8_valueOf_180 q1602 q1603 q1604 q320 q1605 np_X6 rfl OB_6 pd_X6_next (Nat.le_of_ble_eq_true rfl) hd1 (okX6_next l E A (d - 1)  (by omega)  e32 am) rfl ?_
      refine hr_goto hC 201 dX8_valueOf_183 (by decide) ?_
      obtain rfl := Option.some.inj h
      exact hr_sub _ rfl (J21)
  rw [if_neg c83] at h
  by_cases c84 : r5 = 34
  · rw [if_pos c84] at h
    refine hr_tableIn hC 96 dX8_valueOf_17 (by rw [c84] <;> decide) (by rw [c84] <;> decide) (by rw [c84] <;> rfl) (by decide) ?_
    refine hr_aload_n hC dX8_valueOf_96 rfl ?_
    refine hr_iload_n hC dX8_valueOf_97 rfl ?_
    obtain ⟨r39, e40, h⟩ := hx_bind h
    refine hs_callV0 hC 8 [_] _ dX8_valueOf_98 q1703 q1705 qs71 q322 q1706 np_X8 rfl OB_8 pd_X8_valueOf (Nat.le_of_ble_eq_true rfl) hd1 (IH _ _ _ _ e40 am) rfl ?_
    refine hr_istore_n hC dX8_valueOf_101 (by decide) ?_
    refine hr_aload_n hC dX8_valueOf_102 rfl ?_
    refine hr_gO 6 hC F8_0 rfl dX8_valueOf_103 q661 ?_
    refine hr_iload_n hC dX8_valueOf_106 rfl ?_
    obtain ⟨r43, e44, h⟩ := hx_bind h
    refine hs_callV0 hC 6 [_] _ dX8_valueOf_107 q1638 q1639 q1640 q320 q1641 np_X6 rfl OB_6 pd_X6_op (Nat.le_of_ble_eq_true rfl) hd1 (okX6_op l E A (d - 1)  (by omega)  e44 am) rfl ?_
    refine hr_bipush (v := 43) hC dX8_valueOf_110 rfl ?_
    obtain ⟨r49, e50, h⟩ := hx_bind h
    have J51 : hc_At hc_V0 E 4 X 165 [] [.int r49] r39.2 am [] := by
      obtain rfl := Option.some.inj h
      exact hr_iret hC dX8_valueOf_165
    clear h
    have h := e50
    refine hr_icmp_ne (x := _) hC 119 dX8_valueOf_112 (by decide) (fun c48 => ?_) (fun c48 => ?_)
    · rw [if_neg c48] at h
      refine hr_aload_n hC dX8_valueOf_119 rfl ?_
      refine hr_gO 6 hC F8_0 rfl dX8_valueOf_120 q661 ?_
      refine hr_iload_n hC dX8_valueOf_123 rfl ?_
      obtain ⟨r53, e54, h⟩ := hx_bind h
      refine hs_callV0 hC 6 [_] _ dX8_valueOf_124 q1638 q1639 q1640 q320 q1641 np_X6 rfl OB_6 pd_X6_op (Nat.le_of_ble_eq_true rfl) hd1 (okX6_op l E A (d - 1)  (by omega)  e54 am) rfl ?_
      refine hr_bipush (v := 45) hC dX8_valueOf_127 rfl ?_
      refine hr_icmp_ne (x := _) hC 137 dX8_valueOf_129 (by decide) (fun c58 => ?_) (fun c58 => ?_)
      · rw [if_neg c58] at h
        refine hr_aload_n hC dX8_valueOf_137 rfl ?_
        refine hr_gO 6 hC F8_0 rfl dX8_valueOf_138 q661 ?_
        refine hr_iload_n hC dX8_valueOf_141 rfl ?_
        obtain ⟨r59, e60, h⟩ := hx_bind h
        refine hs_callV0 hC 6 [_] _ dX8_valueOf_142 q1638 q1639 q1640 q320 q1641 np_X6 rfl OB_6 pd_X6_op (Nat.le_of_ble_eq_true rfl) hd1 (okX6_op l E A (d - 1)  (by omega)  e60 am) rfl ?_
        refine hr_bipush (v := 126) hC dX8_valueOf_145 rfl ?_
        refine hr_icmp_ne (x := _) hC 156 dX8_valueOf_147 (by decide) (fun c64 => ?_) (fun c64 => ?_)
        · rw [if_neg c64] at h
          refine hr_iload_n hC dX8_valueOf_156 rfl ?_
          refine hr_if_ne (x := _) hC 164 dX8_valueOf_157 (by decide) (fun c66 => ?_) (fun c66 => ?_)
          · rw [if_neg c66] at h
            refine hr_iconst (v := 0) hC dX8_valueOf_164 rfl ?_
            obtain rfl := Option.some.inj h
            exact hr_sub _ rfl (J51)
          · rw [if_pos c66] at h
            refine hr_iconst (v := 1) hC dX8_valueOf_160 rfl ?_
            refine hr_goto hC 165 dX8_valueOf_161 (by decide) ?_
            obtain rfl := Option.some.inj h
            exact hr_sub _ rfl (J51)
        · rw [if_pos c64] at h
          refine hr_iload_n hC dX8_valueOf_150 rfl ?_
          refine hr_iconst (v := (-1)) hC dX8_valueOf_151 rfl ?_
          refine hr_ixor hC dX8_valueOf_152 ?_
          refine hr_goto hC 165 dX8_valueOf_153 (by decide) ?_
          obtain rfl := Option.some.inj h
          exact hr_sub _ rfl (J51)
      · rw [if_pos c58] at h
        refine hr_iload_n hC dX8_valueOf_132 rfl ?_
        refine hr_ineg hC dX8_valueOf_133 ?_
        refine hr_goto hC 165 dX8_valueOf_134 (by decide) ?_
        obtain rfl := Option.some.inj h
        exact hr_sub _ rfl (J51)
    · rw [if_pos c48] at h
      refine hr_iload_n hC dX8_valueOf_115 rfl ?_
      refine hr_goto hC 165 dX8_valueOf_116 (by decide) ?_
      obtain rfl := Option.some.inj h
      exact hr_sub _ rfl (J51)
  rw [if_neg c84] at h
  by_cases c85 : r5 = 37
  · rw [if_pos c85] at h
    refine hr_tableIn hC 64 dX8_valueOf_17 (by rw [c85] <;> decide) (by rw [c85] <;> decide) (by rw [c85] <;> rfl) (by decide) ?_
    refine hr_aload_n hC dX8_valueOf_64 rfl ?_
    refine hr_gO 6 hC F8_0 rfl dX8_valueOf_65 q661 ?_
    refine hr_iload_n hC dX8_valueOf_68 rfl ?_
    obtain ⟨r67, e68, h⟩ := hx_bind h
    refine hs_callV0 hC 6 [_] _ dX8_valueOf_69 q1585 q1586 q1587 q320 q1588 np_X6 rfl OB_6 pd_X6_value (Nat.le_of_ble_eq_true rfl) hd1 (okX6_value l E A (d - 1)  (by omega)  e68 am) rfl ?_
    obtain rfl := Option.some.inj h
    exact hr_iret hC dX8_valueOf_72
  rw [if_neg c85] at h
  by_cases c86 : r5 = 38
  · rw [if_pos c86] at h
    refine hr_tableIn hC 73 dX8_valueOf_17 (by rw [c86] <;> decide) (by rw [c86] <;> decide) (by rw [c86] <;> rfl) (by decide) ?_
    refine hr_aload_n hC dX8_valueOf_73 rfl ?_
    refine hr_gO 10 hC F8_4 rfl dX8_valueOf_74 q665 ?_
    refine hr_aload_n hC dX8_valueOf_77 rfl ?_
    refine hr_gO 10 hC F8_4 rfl dX8_valueOf_78 q665 ?_
    refine hr_aload_n hC dX8_valueOf_81 rfl ?_
    refine hr_gO 6 hC F8_0 rfl dX8_valueOf_82 q661 ?_
    refine hr_iload_n hC dX8_valueOf_85 rfl ?_
    obtain ⟨r71, e72, h⟩ := hx_bind h
    refine hs_callV0 hC 6 [_] _ dX8_valueOf_86 q1585 q1586 q1587 q320 q1588 np_X6 rfl OB_6 pd_X6_value (Nat.le_of_ble_eq_true rfl) hd1 (okX6_value l E A (d - 1)  (by omega)  e72 am) rfl ?_
    obtain ⟨r75, e76, h⟩ := hx_bind h
    refine hs_callV0 hC 10 [_] _ dX8_valueOf_89 q1630 q1631 q1632 q324 q1633 np_X10 rfl OB_10 pd_X10_find (Nat.le_of_ble_eq_true rfl) hd1 (okX10_find l E A (d - 1)  (by omega)  e76 am) rfl ?_
    obtain ⟨r79, e80, h⟩ := hx_bind h
    refine hs_callV0 hC 10 [_] _ dX8_valueOf_92 q1642 q1643 q1644 q324 q1645 np_X10 rfl OB_10 pd_X10_value (Nat.le_of_ble_eq_true rfl) hd1 (okX10_value l E A (d - 1)  (by omega)  e80 am) rfl ?_
    obtain rfl := Option.some.inj h
    exact hr_iret hC dX8_valueOf_95
  rw [if_neg c86] at h
  refine hr_tableD hC 205 dX8_valueOf_17 (ks := [31, 34, 37, 38]) (hc_l1 (hc_ne c83 rfl) (hc_l1 (hc_ne c84 rfl) (hc_l1 (hc_ne c85 rfl) (hc_l1 (hc_ne c86 rfl) hc_l0)))) (by decide) (by decide) (by decide) ?_
  refine hr_aload_n hC dX8_valueOf_205 rfl ?_
  refine hr_iload_n hC dX8_valueOf_206 rfl ?_
  obtain ⟨r9, e10, h⟩ := hx_bind h
  refine hs_callV0 hC 8 [_] _ dX8_valueOf_207 q1707 q1709 qs72 q322 q1710 np_X8 rfl OB_8 pd_X8_valueOfChain (Nat.le_of_ble_eq_true rfl) hd1 (IH _ _ _ _ e10 am) rfl ?_
  obtain rfl := Option.some.inj h
  exact hr_iret hC dX8_valueOf_210
def lp_X8_valueOfChain_39 (n : Nat) (k0 : Nat) (rec : Nat → List Int32 → hc_St → Option (Int32 × hc_St)) : Nat → Int32 → Int32 → Int32 → hc_St → Option (hc_St × Int32)
  | 0, _, _, _, _ => none
  | m + 1, y2, y3, y4, σ => if y4 = (-1) then (some (σ, y2)) else (Option.bind (α := hc_St × Int32) (if 3 ≤ y3 then (Option.bind (fm_X6_op y4 σ) fun r29 => Option.bind (fm_X6_first y4 σ) fun r33 => Option.bind (rec 0 [r33] σ) fun r37 => Option.bind (fm_X8_reckon r29 y2 r37.1 r37.2) fun r41 => some (r41.2, r41.1)) else (hl (α := Int32) ((if y2 = 0 then 1 else 0)) fun v47 => hl (α := Int32) ((if y3 = 1 then 1 else 0)) fun v50 => hl (α := Int32) ((if v47 = v50 then 1 else 0)) fun v53 => Option.bind (α := hc_St × Int32) (if v53 = 0 then (if y3 = 1 then (some (σ, 1)) else (some (σ, 0))) else (Option.bind (fm_X6_first y4 σ) fun r62 => Option.bind (rec 0 [r62] σ) fun r66 => if r66.1 = 0 then (some (r66.2, 0)) else (some (r66.2, 1)))) fun r56 => some (r56.1, r56.2))) fun r25 => Option.bind (fm_X6_next y4 r25.1) fun r81 => lp_X8_valueOfChain_39 n k0 rec m r25.2 y3 r81 r25.1)
/-- HomeCompiler$Checker.valueOfChain(I)I -/
def bd_X8_valueOfChain (n : Nat) (k0 : Nat) (rec : Nat → List Int32 → hc_St → Option (Int32 × hc_St)) (x1 : Int32) (σ : hc_St) : Option (Int32 × hc_St) := Option.bind (fm_X6_first x1 σ) fun r1 => Option.bind (rec 0 [r1] σ) fun r5 => Option.bind (fm_X6_value x1 r5.2) fun r9 => Option.bind (fm_X6_first x1 r5.2) fun r13 => Option.bind (fm_X6_next r13 r5.2) fun r17 => Option.bind (lp_X8_valueOfChain_39 n k0 rec n r5.1 r9 r17 r5.2) fun r85 => some (r85.2, r85.1)
set_option maxRecDepth 20000 in
set_option maxHeartbeats 4000000 in
theorem ll_X8_valueOfChain_39 {l : Launch} {E : hc_E} {A : Nat → Prop} {am : Nat → Nat → Nat} {d : Nat} {kk : Nat} {X : hc_X} (n : Nat) (k0 : Nat) (rec : Nat → List Int32 → hc_St → Option (Int32 × hc_St)) (hD : kk + 3 ≤ d) (hem : X.2.2.2.2.2.2.2.2.2.1.exceptionTable.isEmpty = true) (IH : ∀ (w : Nat) (a : List Int32) (σ : hc_St) (r : (Int32 × hc_St)), rec w a σ = some r → ∀ am, okg_X8_valueOf l E A (d - 1) am w a σ r) {oc : hc_Oc} {σe : hc_St} (hC : hc_C hc_V0 E cX8_valueOfChain 6 RX8 (some .int) d oc σe (l, A, am, []) X) : ∀ (m : Nat) (σ : hc_St) (y2 : Int32) (y3 : Int32) (y4 : Int32) (rl : hc_St × Int32) (am1 : Nat → Nat → Nat), lp_X8_valueOfChain_39 n k0 rec m y2 y3 y4 σ = some rl → (hc_At hc_V0 E 6 X 164 [(2, .int rl.2)] [] rl.1 am1 []) → hc_At hc_V0 E 6 X 39 [(0, .ref (E.2.1 8)), (2, .int y2), (3, .int y3), (4, .int y4)] [] σ am1 [] := by
  have hd1 : 1 ≤ d := by omega
  intro m
  induction m with
  | zero =>
    intro σ y2 y3 y4 rl am1 h
    cases h
  | succ m ih =>
    intro σ y2 y3 y4 rl am1 h JX
    rw [lp_X8_valueOfChain_39] at h
    refine hr_iload hC dX8_valueOfChain_39 rfl ?_
    refine hr_iconst (v := (-1)) hC dX8_valueOfChain_41 rfl ?_
    refine hr_icmp_eq (x := _) hC 164 dX8_valueOfChain_42 (by decide) (fun c22 => ?_) (fun c22 => ?_)
    · rw [if_pos c22] at h
      obtain rfl := Option.some.inj h
      exact hr_sub _ rfl (JX)
    · rw [if_neg c22] at h
      refine hr_iload_n hC dX8_valueOfChain_45 rfl ?_
      refine hr_iconst (v := 3) hC dX8_valueOfChain_46 rfl ?_
      obtain ⟨r25, e26, h⟩ := hx_bind h
      have J27 : hc_At hc_V0 E 6 X 150 [(0, .ref (E.2.1 8)), (2, .int r25.2), (3, .int y3), (4, .int y4)] [] r25.1 am1 [] := by
        refine hr_aload_n hC dX8_valueOfChain_150 rfl ?_
        refine hr_gO 6 hC F8_0 rfl dX8_valueOfChain_151 q661 ?_
        refine hr_iload hC dX8_valueOfChain_154 rfl ?_
        obtain ⟨r81, e82, h⟩ := hx_bind h
        refine hs_callV0 hC 6 [_] _ dX8_valueOfChain_156 q1602 q1603 q1604 q320 q1605 np_X6 rfl OB_6 pd_X6_next (Nat.le_of_ble_eq_true rfl) hd1 (okX6_next l E A (d - 1)  (by omega)  e82 am1) rfl ?_
        refine hr_istore hC dX8_valueOfChain_159 (by decide) ?_
        refine hr_goto hC 39 dX8_valueOfChain_161 (by decide) ?_
        exact hr_sub _ rfl (ih _ _ _ _ _ am1 h JX)
      clear h
      have h := e26
      refine hr_icmp_ge (x := _) hC 122 dX8_valueOfChain_47 (by decide) (fun c24 => ?_) (fun c24 => ?_)
      · rw [if_pos c24] at h
        refine hr_aload_n hC dX8_valueOfChain_122 rfl ?_
        refine hr_aload_n hC dX8_valueOfChain_123 rfl ?_
        refine hr_gO 6 hC F8_0 rfl dX8_valueOfChain_124 q661 ?_
        refine hr_iload hC dX8_valueOfChain_127 rfl ?_
        obtain ⟨r29, e30, h⟩ := hx_bind h
        refine hs_callV0 hC 6 [_] _ dX8_valueOfChain_129 q1638 q1639 q1640 q320 q1641 np_X6 rfl OB_6 pd_X6_op (Nat.le_of_ble_eq_true rfl) hd1 (okX6_op l E A (d - 1)  (by omega)  e30 am1) rfl ?_
        refine hr_iload_n hC dX8_valueOfChain_132 rfl ?_
        refine hr_aload_n hC dX8_valueOfChain_133 rfl ?_
        refine hr_aload_n hC dX8_valueOfChain_134 rfl ?_
        refine hr_gO 6 hC F8_0 rfl dX8_valueOfChain_135 q661 ?_
        refine hr_iload hC dX8_valueOfChain_138 rfl ?_
        obtain ⟨r33, e34, h⟩ := hx_bind h
        refine hs_callV0 hC 6 [_] _ dX8_valueOfChain_140 q1575 q1576 q1577 q320 q1578 np_X6 rfl OB_6 pd_X6_first (Nat.le_of_ble_eq_true rfl) hd1 (okX6_first l E A (d - 1)  (by omega)  e34 am1) rfl ?_
        obtain ⟨r37, e38, h⟩ := hx_bind h
        refine hs_callV0 hC 8 [_] _ dX8_valueOfChain_143 q1703 q1705 qs71 q322 q1706 np_X8 rfl OB_8 pd_X8_valueOf (Nat.le_of_ble_eq_true rfl) hd1 (IH _ _ _ _ e38 am1) rfl ?_
        obtain ⟨r41, e42, h⟩ := hx_bind h
        refine hs_callV0 hC 8 [_, _, _] _ dX8_valueOfChain_146 q1711 q1713 qs73 q322 q1714 np_X8 rfl OB_8 pd_X8_reckon (Nat.le_of_ble_eq_true rfl) hd1 (okX8_reckon l E A (d - 1)  (by omega)  e42 am1) rfl ?_
        refine hr_istore_n hC dX8_valueOfChain_149 (by decide) ?_
        obtain rfl := Option.some.inj h
        exact hr_sub _ rfl (J27)
      · rw [if_neg c24] at h
        refine hr_iload_n hC dX8_valueOfChain_50 rfl ?_
        obtain ⟨v47, hv47, h⟩ := hl_ok h
        have J78 : ∀ w79 : Int32, (if y2 = 0 then 1 else 0) = w79 → hc_At hc_V0 E 6 X 59 [(0, .ref (E.2.1 8)), (3, .int y3), (4, .int y4)] [.int w79] σ am1 [] := by
          intro w79 hw79
          obtain rfl := hv47.trans hw79
          refine hr_iload_n hC dX8_valueOfChain_59 rfl ?_
          refine hr_iconst (v := 1) hC dX8_valueOfChain_60 rfl ?_
          obtain ⟨v50, hv50, h⟩ := hl_ok h
          have J75 : ∀ w76 : Int32, (if y3 = 1 then 1 else 0) = w76 → hc_At hc_V0 E 6 X 69 [(0, .ref (E.2.1 8)), (3, .int y3), (4, .int y4)] [.int w76, .int v47] σ am1 [] := by
            intro w76 hw76
            obtain rfl := hv50.trans hw76
            obtain ⟨v53, hv53, h⟩ := hl_ok h
            have J72 : ∀ w73 : Int32, (if v47 = v50 then 1 else 0) = w73 → hc_At hc_V0 E 6 X 77 [(0, .ref (E.2.1 8)), (3, .int y3), (4, .int y4)] [.int w73] σ am1 [] := by
              intro w73 hw73
              obtain rfl := hv53.trans hw73
              refine hr_istore hC dX8_valueOfChain_77 (by decide) ?_
              refine hr_iload hC dX8_valueOfChain_79 rfl ?_
              obtain ⟨r56, e57, h⟩ := hx_bind h
              have J58 : hc_At hc_V0 E 6 X 118 [(0, .ref (E.2.1 8)), (3, .int y3), (4, .int y4)] [.int r56.2] r56.1 am1 [] := by
                refine hr_istore_n hC dX8_valueOfChain_118 (by decide) ?_
                refine hr_goto hC 150 dX8_valueOfChain_119 (by decide) ?_
                obtain rfl := Option.some.inj h
                exact hr_sub _ rfl (J27)
              clear h
              have h := e57
              refine hr_if_eq (x := _) hC 108 dX8_valueOfChain_81 (by decide) (fun c55 => ?_) (fun c55 => ?_)
              · rw [if_pos c55] at h
                refine hr_iload_n hC dX8_valueOfChain_108 rfl ?_
                refine hr_iconst (v := 1) hC dX8_valueOfChain_109 rfl ?_
                refine hr_icmp_ne (x := _) hC 117 dX8_valueOfChain_110 (by decide) (fun c61 => ?_) (fun c61 => ?_)
                · rw [if_neg c61] at h
                  refine hr_iconst (v := 0) hC dX8_valueOfChain_117 rfl ?_
                  obtain rfl := Option.some.inj h
                  exact hr_sub _ rfl (J58)
                · rw [if_pos c61] at h
                  refine hr_iconst (v := 1) hC dX8_valueOfChain_113 rfl ?_
                  refine hr_goto hC 118 dX8_valueOfChain_114 (by decide) ?_
                  obtain rfl := Option.some.inj h
                  exact hr_sub _ rfl (J58)
              · rw [if_neg c55] at h
                refine hr_aload_n hC dX8_valueOfChain_84 rfl ?_
                refine hr_aload_n hC dX8_valueOfChain_85 rfl ?_
                refine hr_gO 6 hC F8_0 rfl dX8_valueOfChain_86 q661 ?_
                refine hr_iload hC dX8_valueOfChain_89 rfl ?_
                obtain ⟨r62, e63, h⟩ := hx_bind h
                refine hs_callV0 hC 6 [_] _ dX8_valueOfChain_91 q1575 q1576 q1577 q320 q1578 np_X6 rfl OB_6 pd_X6_first (Nat.le_of_ble_eq_true rfl) hd1 (okX6_first l E A (d - 1)  (by omega)  e63 am1) rfl ?_
                obtain ⟨r66, e67, h⟩ := hx_bind h
                refine hs_callV0 hC 8 [_] _ dX8_valueOfChain_94 q1703 q1705 qs71 q322 q1706 np_X8 rfl OB_8 pd_X8_valueOf (Nat.le_of_ble_eq_true rfl) hd1 (IH _ _ _ _ e67 am1) rfl ?_
                refine hr_if_eq (x := _) hC 104 dX8_valueOfChain_97 (by decide) (fun c71 => ?_) (fun c71 => ?_)
                · rw [if_pos c71] at h
                  refine hr_iconst (v := 0) hC dX8_valueOfChain_104 rfl ?_
                  refine hr_goto hC 118 dX8_valueOfChain_105 (by decide) ?_
                  obtain rfl := Option.some.inj h
                  exact hr_sub _ rfl (J58)
                · rw [if_neg c71] at h
                  refine hr_iconst (v := 1) hC dX8_valueOfChain_100 rfl ?_
                  refine hr_goto hC 118 dX8_valueOfChain_101 (by decide) ?_
                  obtain rfl := Option.some.inj h
                  exact hr_sub _ rfl (J58)
            refine hr_icmp_ne (x := _) hC 76 dX8_valueOfChain_69 (by decide) (fun c74 => ?_) (fun c74 => ?_)
            · refine hr_iconst (v := 0) hC dX8_valueOfChain_76 rfl ?_
              exact hr_sub _ rfl (J72 _ (by first | (rw [if_neg c74]; done) | (simp only [if_neg c74]; done) | rfl))
            · refine hr_iconst (v := 1) hC dX8_valueOfChain_72 rfl ?_
              refine hr_goto hC 77 dX8_valueOfChain_73 (by decide) ?_
              exact hr_sub _ rfl (J72 _ (by first | (rw [if_pos c74]; done) | (simp only [if_pos c74]; done) | rfl))
          refine hr_icmp_ne (x := _) hC 68 dX8_valueOfChain_61 (by decide) (fun c77 => ?_) (fun c77 => ?_)
          · refine hr_iconst (v := 0) hC dX8_valueOfChain_68 rfl ?_
            exact hr_sub _ rfl (J75 _ (by first | (rw [if_neg c77]; done) | (simp only [if_neg c77]; done) | rfl))
          · refine hr_iconst (v := 1) hC dX8_valueOfChain_64 rfl ?_
            refine hr_goto hC 69 dX8_valueOfChain_65 (by decide) ?_
            exact hr_sub _ rfl (J75 _ (by first | (rw [if_pos c77]; done) | (simp only [if_pos c77]; done) | rfl))
        refine hr_if_ne (x := _) hC 58 dX8_valueOfChain_51 (by decide) (fun c80 => ?_) (fun c80 => ?_)
        · refine hr_iconst (v := 0) hC dX8_valueOfChain_58 rfl ?_
          exact hr_sub _ rfl (J78 _ (by first | (rw [if_neg c80]; done) | (simp only [if_neg c80]; done) | rfl))
        · refine hr_iconst (v := 1) hC dX8_valueOfChain_54 rfl ?_
          refine hr_goto hC 59 dX8_valueOfChain_55 (by decide) ?_
          exact hr_sub _ rfl (J78 _ (by first | (rw [if_pos c80]; done) | (simp only [if_pos c80]; done) | rfl))
set_option maxRecDepth 20000 in
set_option maxHeartbeats 4000000 in
theorem okbX8_valueOfChain (l : Launch) (E : hc_E) (A : Nat → Prop) (d : Nat) {kk : Nat} (n : Nat) (k0 : Nat) (rec : Nat → List Int32 → hc_St → Option (Int32 × hc_St)) (hD : kk + 3 ≤ d) (IH : ∀ (w : Nat) (a : List Int32) (σ : hc_St) (r : (Int32 × hc_St)), rec w a σ = some r → ∀ am, okg_X8_valueOf l E A (d - 1) am w a σ r) {x1 : Int32} {σ : hc_St} {r : (Int32 × hc_St)} (h : bd_X8_valueOfChain n k0 rec x1 σ = some r) (am : Nat → Nat → Nat) : hc_M l hc_V0 yX8_valueOfChain (ws_ yX8_valueOfChain cX8_valueOfChain 6 (some .int)) d E A [.ref (E.2.1 8), .int x1] am [] σ (.inl (some (.int r.1))) r.2 := by
  have hd1 : 1 ≤ d := by omega
  refine hc_enter2 (own := RX8) [(0, .ref (E.2.1 8)), (1, .int x1)] pl_X8 rfl hc_V0_st hc_G0_nd rfl (Nat.le_of_ble_eq_true rfl) (fun X hC hem => ?_)
  unfold bd_X8_valueOfChain at h
  refine hr_aload_n hC dX8_valueOfChain_0 rfl ?_
  refine hr_aload_n hC dX8_valueOfChain_1 rfl ?_
  refine hr_gO 6 hC F8_0 rfl dX8_valueOfChain_2 q661 ?_
  refine hr_iload_n hC dX8_valueOfChain_5 rfl ?_
  obtain ⟨r1, e2, h⟩ := hx_bind h
  refine hs_callV0 hC 6 [_] _ dX8_valueOfChain_6 q1575 q1576 q1577 q320 q1578 np_X6 rfl OB_6 pd_X6_first (Nat.le_of_ble_eq_true rfl) hd1 (okX6_first l E A (d - 1)  (by omega)  e2 am) rfl ?_
  obtain ⟨r5, e6, h⟩ := hx_bind h
  refine hs_callV0 hC 8 [_] _ dX8_valueOfChain_9 q1703 q1705 qs71 q322 q1706 np_X8 rfl OB_8 pd_X8_valueOf (Nat.le_of_ble_eq_true rfl) hd1 (IH _ _ _ _ e6 am) rfl ?_
  refine hr_istore_n hC dX8_valueOfChain_12 (by decide) ?_
  refine hr_aload_n hC dX8_valueOfChain_13 rfl ?_
  refine hr_gO 6 hC F8_0 rfl dX8_valueOfChain_14 q661 ?_
  refine hr_iload_n hC dX8_valueOfChain_17 rfl ?_
  obtain ⟨r9, e10, h⟩ := hx_bind h
  refine hs_callV0 hC 6 [_] _ dX8_valueOfChain_18 q1585 q1586 q1587 q320 q1588 np_X6 rfl OB_6 pd_X6_value (Nat.le_of_ble_eq_true rfl) hd1 (okX6_value l E A (d - 1)  (by omega)  e10 am) rfl ?_
  refine hr_istore_n hC dX8_valueOfChain_21 (by decide) ?_
  refine hr_aload_n hC dX8_valueOfChain_22 rfl ?_
  refine hr_gO 6 hC F8_0 rfl dX8_valueOfChain_23 q661 ?_
  refine hr_aload_n hC dX8_valueOfChain_26 rfl ?_
  refine hr_gO 6 hC F8_0 rfl dX8_valueOfChain_27 q661 ?_
  refine hr_iload_n hC dX8_valueOfChain_30 rfl ?_
  obtain ⟨r13, e14, h⟩ := hx_bind h
  refine hs_callV0 hC 6 [_] _ dX8_valueOfChain_31 q1575 q1576 q1577 q320 q1578 np_X6 rfl OB_6 pd_X6_first (Nat.le_of_ble_eq_true rfl) hd1 (okX6_first l E A (d - 1)  (by omega)  e14 am) rfl ?_
  obtain ⟨r17, e18, h⟩ := hx_bind h
  refine hs_callV0 hC 6 [_] _ dX8_valueOfChain_34 q1602 q1603 q1604 q320 q1605 np_X6 rfl OB_6 pd_X6_next (Nat.le_of_ble_eq_true rfl) hd1 (okX6_next l E A (d - 1)  (by omega)  e18 am) rfl ?_
  refine hr_istore hC dX8_valueOfChain_37 (by decide) ?_
  obtain ⟨r85, e86, h⟩ := hx_bind h
  refine hr_sub _ rfl (ll_X8_valueOfChain_39 n k0 rec hD hem IH hC n _ _ _ _ _ am e86 ?_)
  refine hr_iload_n hC dX8_valueOfChain_164 rfl ?_
  obtain rfl := Option.some.inj h
  exact hr_iret hC dX8_valueOfChain_165
def rc_X8_valueOf (n : Nat) (k0 : Nat) : Nat → Nat → List Int32 → hc_St → Option (Int32 × hc_St)
  | 0, _, _, _ => none
  | k + 1, w, a, σ => match w with
    | 0 => bd_X8_valueOf n k0 (rc_X8_valueOf n k0 k) (a.getD 0 0) σ
    | 1 => bd_X8_valueOfChain n k0 (rc_X8_valueOf n k0 k) (a.getD 0 0) σ
    | _ => none
theorem okr_X8_valueOf (l : Launch) (E : hc_E) (A : Nat → Prop) (n : Nat) (k0 : Nat) : ∀ (k d : Nat), k + 3 ≤ d → ∀ (w : Nat) (a : List Int32) (σ : hc_St) (r : (Int32 × hc_St)), rc_X8_valueOf n k0 k w a σ = some r → ∀ am, okg_X8_valueOf l E A d am w a σ r
  | 0, d, _, w, a, σ, r, h, am => by cases h
  | k + 1, d, hd, w, a, σ, r, h, am => by
    have IH := okr_X8_valueOf l E A n k0 k (d - 1) (by omega)
    match w, h with
    | 0, h => exact okbX8_valueOf l E A d (kk := k) n k0 (rc_X8_valueOf n k0 k) (by omega) IH h am
    | 1, h => exact okbX8_valueOfChain l E A d (kk := k) n k0 (rc_X8_valueOf n k0 k) (by omega) IH h am
    | w + 2, h => trivial
def fm_X8_valueOf (n : Nat) (k0 : Nat) (x1 : Int32) (σ : hc_St) : Option (Int32 × hc_St) := rc_X8_valueOf n k0 k0 0 [x1] σ
theorem okX8_valueOf (l : Launch) (E : hc_E) (A : Nat → Prop) (d : Nat) (n : Nat) (k0 : Nat) (hD : k0 + 3 ≤ d)  {x1 : Int32} {σ : hc_St} {r : (Int32 × hc_St)} (h : fm_X8_valueOf n k0 x1 σ = some r) (am : Nat → Nat → Nat) : hc_M l hc_V0 yX8_valueOf (ws_ yX8_valueOf cX8_valueOf 4 (some .int)) d E A [.ref (E.2.1 8), .int x1] am [] σ (.inl (some (.int r.1))) r.2 := okr_X8_valueOf l E A n k0 k0 d hD 0 _ _ _ h am
def fm_X8_valueOfChain (n : Nat) (k0 : Nat) (x1 : Int32) (σ : hc_St) : Option (Int32 × hc_St) := rc_X8_valueOf n k0 k0 1 [x1] σ
theorem okX8_valueOfChain (l : Launch) (E : hc_E) (A : Nat → Prop) (d : Nat) (n : Nat) (k0 : Nat) (hD : k0 + 3 ≤ d)  {x1 : Int32} {σ : hc_St} {r : (Int32 × hc_St)} (h : fm_X8_valueOfChain n k0 x1 σ = some r) (am : Nat → Nat → Nat) : hc_M l hc_V0 yX8_valueOfChain (ws_ yX8_valueOfChain cX8_valueOfChain 6 (some .int)) d E A [.ref (E.2.1 8), .int x1] am [] σ (.inl (some (.int r.1))) r.2 := okr_X8_valueOf l E A n k0 k0 d hD 1 _ _ _ h am
