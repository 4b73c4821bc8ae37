set_option maxRecDepth 20000
def lp_X15_isParameter_12 (n : Nat) : Nat → Int32 → Int32 → Int32 → hc_St → Option (Int32)
  | 0, _, _, _, _ => none
  | m + 1, y2, y3, y4, σ => if y4 = (-1) then (some (y3)) else (Option.bind (fm_X6_kind y4 σ) fun r7 => Option.bind (α := Int32) (if r7 = 5 then (Option.bind (fm_X6_number y4 σ) fun r17 => if r17 = y2 then (some (1)) else (some (0))) else (some (0))) fun r13 => Option.bind (fm_X6_next y4 σ) fun r23 => lp_X15_isParameter_12 n m y2 ((y3 ||| r13)) r23 σ)
/-- HomeCompiler$Homes.isParameter(II)Z -/
def fm_X15_isParameter (n : Nat) (x1 : Int32) (x2 : Int32) (σ : hc_St) : Option Int32 := Option.bind (fm_X6_first x1 σ) fun r1 => Option.bind (lp_X15_isParameter_12 n n x2 0 r1 σ) fun r27 => hk (hb01 r27) <| some r27
set_option maxRecDepth 20000 in
set_option maxHeartbeats 4000000 in
theorem ll_X15_isParameter_12 {l : Launch} {E : hc_E} {A : Nat → Prop} {am : Nat → Nat → Nat} {d : Nat} {X : hc_X} (n : Nat) (hD : 2 ≤ d) (hem : X.2.2.2.2.2.2.2.2.2.1.exceptionTable.isEmpty = true) {oc : hc_Oc} {σe : hc_St} (hC : hc_C hc_V0 E cX15_isParameter 5 RX15 (some .boolean) d oc σe (l, A, am, []) X) : ∀ (m : Nat) (σ : hc_St) (y2 : Int32) (y3 : Int32) (y4 : Int32) (rl : Int32) (am1 : Nat → Nat → Nat), lp_X15_isParameter_12 n m y2 y3 y4 σ = some rl → (hc_At hc_V0 E 5 X 66 [(3, .int rl)] [] σ am1 []) → hc_At hc_V0 E 5 X 12 [(0, .ref (E.2.1 16)), (2, .int y2), (3, .int y3), (4, .int y4)] [] σ am1 [] := by
  have hd1 : 1 ≤ d := by omega
  intro m
  induction m with
  | zero =>
    intro σ y2 y3 y4 rl am1 h
    cases h
  | succ m ih =>
    intro σ y2 y3 y4 rl am1 h JX
    rw [lp_X15_isParameter_12] at h
    refine hr_iload hC dX15_isParameter_12 rfl ?_
    refine hr_iconst (v := (-1)) hC dX15_isParameter_14 rfl ?_
    refine hr_icmp_eq (x := _) hC 66 dX15_isParameter_15 (by decide) (fun c6 => ?_) (fun c6 => ?_)
    · rw [if_pos c6] at h
      obtain rfl := Option.some.inj h
      exact hr_sub _ rfl (JX)
    · rw [if_neg c6] at h
      refine hr_iload_n hC dX15_isParameter_18 rfl ?_
      refine hr_aload_n hC dX15_isParameter_19 rfl ?_
      refine hr_gO 6 hC F16_0 rfl dX15_isParameter_20 q767 ?_
      refine hr_iload hC dX15_isParameter_23 rfl ?_
      obtain ⟨r7, e8, h⟩ := hx_bind h
      refine hs_callV0 hC 6 [_] _ dX15_isParameter_25 q1953 q1369 q1370 q320 q1371 np_X6 rfl OB_6 pd_X6_kind (Nat.le_of_ble_eq_true rfl) hd1 (okX6_kind l E A (d - 1)  (by omega)  e8 am1) rfl ?_
      refine hr_iconst (v := 5) hC dX15_isParameter_28 rfl ?_
      obtain ⟨r13, e14, h⟩ := hx_bind h
      have J15 : hc_At hc_V0 E 5 X 50 [(0, .ref (E.2.1 16)), (2, .int y2), (4, .int y4)] [.int r13, .int y3] σ am1 [] := by
        refine hr_ior hC dX15_isParameter_50 ?_
        refine hr_istore_n hC dX15_isParameter_51 (by decide) ?_
        refine hr_aload_n hC dX15_isParameter_52 rfl ?_
        refine hr_gO 6 hC F16_0 rfl dX15_isParameter_53 q767 ?_
        refine hr_iload hC dX15_isParameter_56 rfl ?_
        obtain ⟨r23, e24, h⟩ := hx_bind h
        refine hs_callV0 hC 6 [_] _ dX15_isParameter_58 q1956 q1603 q1604 q320 q1605 np_X6 rfl OB_6 pd_X6_next (Nat.le_of_ble_eq_true rfl) hd1 (okX6_next l E A (d - 1)  (by omega)  e24 am1) rfl ?_
        refine hr_istore hC dX15_isParameter_61 (by decide) ?_
        refine hr_goto hC 12 dX15_isParameter_63 (by decide) ?_
        exact hr_sub _ rfl (ih _ _ _ _ _ am1 h JX)
      clear h
      have h := e14
      refine hr_icmp_ne (x := _) hC 49 dX15_isParameter_29 (by decide) (fun c12 => ?_) (fun c12 => ?_)
      · rw [if_neg c12] at h
        refine hr_iconst (v := 0) hC dX15_isParameter_49 rfl ?_
        obtain rfl := Option.some.inj h
        exact hr_sub _ rfl (J15)
      · rw [if_pos c12] at h
        refine hr_aload_n hC dX15_isParameter_32 rfl ?_
        refine hr_gO 6 hC F16_0 rfl dX15_isParameter_33 q767 ?_
        refine hr_iload hC dX15_isParameter_36 rfl ?_
        obtain ⟨r17, e18, h⟩ := hx_bind h
        refine hs_callV0 hC 6 [_] _ dX15_isParameter_38 q1969 q1970 q1971 q320 q1972 np_X6 rfl OB_6 pd_X6_number (Nat.le_of_ble_eq_true rfl) hd1 (okX6_number l E A (d - 1)  (by omega)  e18 am1) rfl ?_
        refine hr_iload_n hC dX15_isParameter_41 rfl ?_
        refine hr_icmp_ne (x := _) hC 49 dX15_isParameter_42 (by decide) (fun c22 => ?_) (fun c22 => ?_)
        · rw [if_neg c22] at h
          refine hr_iconst (v := 0) hC dX15_isParameter_49 rfl ?_
          obtain rfl := Option.some.inj h
          exact hr_sub _ rfl (J15)
        · rw [if_pos c22] at h
          refine hr_iconst (v := 1) hC dX15_isParameter_45 rfl ?_
          refine hr_goto hC 50 dX15_isParameter_46 (by decide) ?_
          obtain rfl := Option.some.inj h
          exact hr_sub _ rfl (J15)
set_option maxRecDepth 20000 in
set_option maxHeartbeats 4000000 in
theorem okX15_isParameter (l : Launch) (E : hc_E) (A : Nat → Prop) (d : Nat) (n : Nat) (hD : 2 ≤ d) {x1 : Int32} {x2 : Int32} {σ : hc_St} {r : Int32} (h : fm_X15_isParameter n x1 x2 σ = some r) (am : Nat → Nat → Nat) : hc_M l hc_V0 yX15_isParameter (ws_ yX15_isParameter cX15_isParameter 5 (some .boolean)) d E A [.ref (E.2.1 16), .int x1, .int x2] am [] σ (.inl (some (.int r))) σ := by
  have hd1 : 1 ≤ d := by omega
  refine hc_enter2 (own := RX15) [(0, .ref (E.2.1 16)), (1, .int x1), (2, .int x2)] pl_X15 rfl hc_V0_st hc_G0_nd rfl (Nat.le_of_ble_eq_true rfl) (fun X hC hem => ?_)
  unfold fm_X15_isParameter at h
  refine hr_iconst (v := 0) hC dX15_isParameter_0 rfl ?_
  refine hr_istore_n hC dX15_isParameter_1 (by decide) ?_
  refine hr_aload_n hC dX15_isParameter_2 rfl ?_
  refine hr_gO 6 hC F16_0 rfl dX15_isParameter_3 q767 ?_
  refine hr_iload_n hC dX15_isParameter_6 rfl ?_
  obtain ⟨r1, e2, h⟩ := hx_bind h
  refine hs_callV0 hC 6 [_] _ dX15_isParameter_7 q1955 q1576 q1577 q320 q1578 np_X6 rfl OB_6 pd_X6_first (Nat.le_of_ble_eq_true rfl) hd1 (okX6_first l E A (d - 1)  (by omega)  e2 am) rfl ?_
  refine hr_istore hC dX15_isParameter_10 (by decide) ?_
  obtain ⟨r27, e28, h⟩ := hx_bind h
  refine hr_sub _ rfl (ll_X15_isParameter_12 n hD hem hC n _ _ _ _ _ am e28 ?_)
  refine hr_iload_n hC dX15_isParameter_66 rfl ?_
  obtain ⟨c32, h⟩ := hk_ok h
  obtain rfl := Option.some.inj h
  exact hr_zret hC (hb01_n c32) dX15_isParameter_67
def lp_X15_place_14 (n : Nat) : Nat → Int32 → Int32 → Int32 → hc_St → Option (hc_St)
  | 0, _, _, _, _ => none
  | m + 1, y1, y2, y3, σ => Option.bind (fm_X6_kind y3 σ) fun r6 => if r6 = 5 then (Option.bind (fm_X6_number y3 σ) fun r12 => Option.bind (fm_X11_words r12 σ) fun r16 => hl (pI σ 16 7 ((((gI σ 16 7)) + r16))) fun σ20 => hk (inb r12 (gL σ20 16 5)) <| hl (pC σ20 16 5 r12 ((4 * ((gI σ20 16 7))))) fun σ22 => Option.bind (fm_X6_next y3 σ22) fun r23 => lp_X15_place_14 n m y1 y2 r23 σ22) else (some (σ))
def lp_X15_place_100 (n : Nat) : Nat → Int32 → Int32 → Int32 → Int32 → hc_St → Option (hc_St)
  | 0, _, _, _, _, _ => none
  | m + 1, y1, y2, y4, y5, σ => Option.bind (fm_X11_count  σ) fun r33 => if r33 ≤ y5 then (some (σ)) else (Option.bind (fm_X11_owner y5 σ) fun r39 => Option.bind (α := Int32) (if r39 = y2 then (Option.bind (fm_X11_size y5 σ) fun r49 => if r49 = (-1) then (some (0)) else (hk (inb y5 (gL σ 16 3)) <| if (gC σ 16 3 y5) = (-1) then (Option.bind (fm_X15_isParameter n y1 y5 σ) fun r58 => if r58 = 0 then (some (1)) else (some (0))) else (some (0)))) else (some (0))) fun r45 => Option.bind (α := hc_St) (if r45 = 0 then (some (σ)) else (Option.bind (fm_X11_words y5 σ) fun r70 => hl (pI σ 16 8 ((((gI σ 16 8)) + r70))) fun σ74 => hk (inb y5 (gL σ74 16 5)) <| hl (pC σ74 16 5 y5 ((4 * ((y4 + ((gI σ74 16 8))))))) fun σ76 => some (σ76))) fun r66 => lp_X15_place_100 n m y1 y2 y4 ((y5 + 1)) r66)
/-- HomeCompiler$Homes.place(II)V -/
def fm_X15_place (n : Nat) (x1 : Int32) (x2 : Int32) (σ : hc_St) : Option hc_St := hl (pI σ 16 7 0) fun σ1 => Option.bind (fm_X6_first x1 σ1) fun r2 => Option.bind (lp_X15_place_14 n n x1 x2 r2 σ1) fun r27 => hl (pI r27 16 8 0) fun σ32 => Option.bind (lp_X15_place_100 n n x1 x2 ((((((gI σ32 16 7)) + ((gI σ32 16 6)))) + 2)) 0 σ32) fun r77 => some r77
set_option maxRecDepth 20000 in
set_option maxHeartbeats 4000000 in
theorem ll_X15_place_14 {l : Launch} {E : hc_E} {A : Nat → Prop} {am : Nat → Nat → Nat} {d : Nat} {X : hc_X} (n : Nat) (hD : 3 ≤ d) (hem : X.2.2.2.2.2.2.2.2.2.1.exceptionTable.isEmpty = true) {oc : hc_Oc} {σe : hc_St} (hC : hc_C hc_V0 E cX15_place 7 RX15 none d oc σe (l, A, am, []) X) : ∀ (m : Nat) (σ : hc_St) (y1 : Int32) (y2 : Int32) (y3 : Int32) (rl : hc_St) (am1 : Nat → Nat → Nat), lp_X15_place_14 n m y1 y2 y3 σ = some rl → (hc_At hc_V0 E 7 X 79 [(0, .ref (E.2.1 16)), (1, .int y1), (2, .int y2)] [] rl am1 []) → hc_At hc_V0 E 7 X 14 [(0, .ref (E.2.1 16)), (1, .int y1), (2, .int y2), (3, .int y3)] [] σ am1 [] := by
  have hd1 : 1 ≤ d := by omega
  intro m
  induction m with
  | zero =>
    intro σ y1 y2 y3 rl am1 h
    cases h
  | succ m ih =>
    intro σ y1 y2 y3 rl am1 h JX
    rw [lp_X15_place_14] at h
    refine hr_aload_n hC dX15_place_14 rfl ?_
    refine hr_gO 6 hC F16_0 rfl dX15_place_15 q767 ?_
    refine hr_iload_n hC dX15_place_18 rfl ?_
    obtain ⟨r6, e7, h⟩ := hx_bind h
    refine hs_callV0 hC 6 [_] _ dX15_place_19 q1953 q1369 q1370 q320 q1371 np_X6 rfl OB_6 pd_X6_kind (Nat.le_of_ble_eq_true rfl) hd1 (okX6_kind l E A (d - 1)  (by omega)  e7 am1) rfl ?_
    refine hr_iconst (v := 5) hC dX15_place_22 rfl ?_
    refine hr_icmp_ne (x := _) hC 79 dX15_place_23 (by decide) (fun c11 => ?_) (fun c11 => ?_)
    · rw [if_neg c11] at h
      obtain rfl := Option.some.inj h
      exact hr_sub _ rfl (JX)
    · rw [if_pos c11] at h
      refine hr_aload_n hC dX15_place_26 rfl ?_
      refine hr_gO 6 hC F16_0 rfl dX15_place_27 q767 ?_
      refine hr_iload_n hC dX15_place_30 rfl ?_
      obtain ⟨r12, e13, h⟩ := hx_bind h
      refine hs_callV0 hC 6 [_] _ dX15_place_31 q1969 q1970 q1971 q320 q1972 np_X6 rfl OB_6 pd_X6_number (Nat.le_of_ble_eq_true rfl) hd1 (okX6_number l E A (d - 1)  (by omega)  e13 am1) rfl ?_
      refine hr_istore hC dX15_place_34 (by decide) ?_
      refine hr_aload_n hC dX15_place_36 rfl ?_
      refine hr_dup hC dX15_place_37 rfl ?_
      refine hr_gI hC F16_7 dX15_place_38 q774 ?_
      refine hr_aload_n hC dX15_place_41 rfl ?_
      refine hr_gO 11 hC F16_1 rfl dX15_place_42 q768 ?_
      refine hr_iload hC dX15_place_45 rfl ?_
      obtain ⟨r16, e17, h⟩ := hx_bind h
      refine hs_callV0 hC 11 [_] _ dX15_place_47 q1973 q1757 q1758 q325 q1759 np_X11 rfl OB_11 pd_X11_words (Nat.le_of_ble_eq_true rfl) hd1 (okX11_words l E A (d - 1)  (by omega)  e17 am1) rfl ?_
      refine hr_iadd hC dX15_place_50 ?_
      obtain ⟨σ20, hσ20, h⟩ := hl_ok h
      refine hr_pI hC F16_7 PX15_7 dX15_place_51 q774 ?_
      rw [← hσ20]
      refine hr_aload_n hC dX15_place_54 rfl ?_
      refine hr_gA hC F16_5 rfl dX15_place_55 q772 ?_
      refine hr_iload hC dX15_place_58 rfl ?_
      refine hr_iconst (v := 4) hC dX15_place_60 rfl ?_
      refine hr_aload_n hC dX15_place_61 rfl ?_
      refine hr_gI hC F16_7 dX15_place_62 q774 ?_
      refine hr_imul hC dX15_place_65 ?_
      obtain ⟨c21, h⟩ := hk_ok h
      obtain ⟨σ22, hσ22, h⟩ := hl_ok h
      refine hs_iast hC A16_5 c21 dX15_place_66 ?_
      rw [← hσ22]
      refine hr_aload_n hC dX15_place_67 rfl ?_
      refine hr_gO 6 hC F16_0 rfl dX15_place_68 q767 ?_
      refine hr_iload_n hC dX15_place_71 rfl ?_
      obtain ⟨r23, e24, h⟩ := hx_bind h
      refine hs_callV0 hC 6 [_] _ dX15_place_72 q1956 q1603 q1604 q320 q1605 np_X6 rfl OB_6 pd_X6_next (Nat.le_of_ble_eq_true rfl) hd1 (okX6_next l E A (d - 1)  (by omega)  e24 am1) rfl ?_
      refine hr_istore_n hC dX15_place_75 (by decide) ?_
      refine hr_goto hC 14 dX15_place_76 (by decide) ?_
      exact hr_sub _ rfl (ih _ _ _ _ _ am1 h JX)
set_option maxRecDepth 20000 in
set_option maxHeartbeats 4000000 in
theorem ll_X15_place_100 {l : Launch} {E : hc_E} {A : Nat → Prop} {am : Nat → Nat → Nat} {d : Nat} {X : hc_X} (n : Nat) (hD : 3 ≤ d) (hem : X.2.2.2.2.2.2.2.2.2.1.exceptionTable.isEmpty = true) {oc : hc_Oc} {σe : hc_St} (hC : hc_C hc_V0 E cX15_place 7 RX15 none d oc σe (l, A, am, []) X) : ∀ (m : Nat) (σ : hc_St) (y1 : Int32) (y2 : Int32) (y4 : Int32) (y5 : Int32) (rl : hc_St) (am1 : Nat → Nat → Nat), lp_X15_place_100 n m y1 y2 y4 y5 σ = some rl → (hc_At hc_V0 E 7 X 211 [] [] rl am1 []) → hc_At hc_V0 E 7 X 100 [(0, .ref (E.2.1 16)), (1, .int y1), (2, .int y2), (4, .int y4), (5, .int y5)] [] σ am1 [] := by
  have hd1 : 1 ≤ d := by omega
  intro m
  induction m with
  | zero =>
    intro σ y1 y2 y4 y5 rl am1 h
    cases h
  | succ m ih =>
    intro σ y1 y2 y4 y5 rl am1 h JX
    rw [lp_X15_place_100] at h
    refine hr_iload hC dX15_place_100 rfl ?_
    refine hr_aload_n hC dX15_place_102 rfl ?_
    refine hr_gO 11 hC F16_1 rfl dX15_place_103 q768 ?_
    obtain ⟨r33, e34, h⟩ := hx_bind h
    refine hs_callV0 hC 11 [] _ dX15_place_106 q1947 q1864 q1865 q325 q1866 np_X11 rfl OB_11 pd_X11_count (Nat.le_of_ble_eq_true rfl) hd1 (okX11_count l E A (d - 1)  (by omega)  e34 am1) rfl ?_
    refine hr_icmp_ge (x := _) hC 211 dX15_place_109 (by decide) (fun c38 => ?_) (fun c38 => ?_)
    · rw [if_pos c38] at h
      obtain rfl := Option.some.inj h
      exact hr_sub _ rfl (JX)
    · rw [if_neg c38] at h
      refine hr_aload_n hC dX15_place_112 rfl ?_
      refine hr_gO 11 hC F16_1 rfl dX15_place_113 q768 ?_
      refine hr_iload hC dX15_place_116 rfl ?_
      obtain ⟨r39, e40, h⟩ := hx_bind h
      refine hs_callV0 hC 11 [_] _ dX15_place_118 q1948 q1868 q1869 q325 q1870 np_X11 rfl OB_11 pd_X11_owner (Nat.le_of_ble_eq_true rfl) hd1 (okX11_owner l E A (d - 1)  (by omega)  e40 am1) rfl ?_
      refine hr_iload_n hC dX15_place_121 rfl ?_
      obtain ⟨r45, e46, h⟩ := hx_bind h
      have J47 : hc_At hc_V0 E 7 X 164 [(0, .ref (E.2.1 16)), (1, .int y1), (2, .int y2), (4, .int y4), (5, .int y5)] [.int r45] σ am1 [] := by
        refine hr_istore hC dX15_place_164 (by decide) ?_
        refine hr_iload hC dX15_place_166 rfl ?_
        obtain ⟨r66, e67, h⟩ := hx_bind h
        have J68 : hc_At hc_V0 E 7 X 205 [(0, .ref (E.2.1 16)), (1, .int y1), (2, .int y2), (4, .int y4), (5, .int y5)] [] r66 am1 [] := by
          refine hr_iinc (v := y5 + 1) hC dX15_place_205 rfl rfl (by decide) ?_
          refine hr_goto hC 100 dX15_place_208 (by decide) ?_
          exact hr_sub _ rfl (ih _ _ _ _ _ _ am1 h JX)
        clear h
        have h := e67
        refine hr_if_eq (x := _) hC 205 dX15_place_168 (by decide) (fun c65 => ?_) (fun c65 => ?_)
        · rw [if_pos c65] at h
          obtain rfl := Option.some.inj h
          exact hr_sub _ rfl (J68)
        · rw [if_neg c65] at h
          refine hr_aload_n hC dX15_place_171 rfl ?_
          refine hr_dup hC dX15_place_172 rfl ?_
          refine hr_gI hC F16_8 dX15_place_173 q775 ?_
          refine hr_aload_n hC dX15_place_176 rfl ?_
          refine hr_gO 11 hC F16_1 rfl dX15_place_177 q768 ?_
          refine hr_iload hC dX15_place_180 rfl ?_
          obtain ⟨r70, e71, h⟩ := hx_bind h
          refine hs_callV0 hC 11 [_] _ dX15_place_182 q1973 q1757 q1758 q325 q1759 np_X11 rfl OB_11 pd_X11_words (Nat.le_of_ble_eq_true rfl) hd1 (okX11_words l E A (d - 1)  (by omega)  e71 am1) rfl ?_
          refine hr_iadd hC dX15_place_185 ?_
          obtain ⟨σ74, hσ74, h⟩ := hl_ok h
          refine hr_pI hC F16_8 PX15_8 dX15_place_186 q775 ?_
          rw [← hσ74]
          refine hr_aload_n hC dX15_place_189 rfl ?_
          refine hr_gA hC F16_5 rfl dX15_place_190 q772 ?_
          refine hr_iload hC dX15_place_193 rfl ?_
          refine hr_iconst (v := 4) hC dX15_place_195 rfl ?_
          refine hr_iload hC dX15_place_196 rfl ?_
          refine hr_aload_n hC dX15_place_198 rfl ?_
          refine hr_gI hC F16_8 dX15_place_199 q775 ?_
          refine hr_iadd hC dX15_place_202 ?_
          refine hr_imul hC dX15_place_203 ?_
          obtain ⟨c75, h⟩ := hk_ok h
          obtain ⟨σ76, hσ76, h⟩ := hl_ok h
          refine hs_iast hC A16_5 c75 dX15_place_204 ?_
          rw [← hσ76]
          obtain rfl := Option.some.inj h
          exact hr_sub _ rfl (J68)
      clear h
      have h := e46
      refine hr_icmp_ne (x := _) hC 163 dX15_place_122 (by decide) (fun c44 => ?_) (fun c44 => ?_)
      · rw [if_neg c44] at h
        refine hr_iconst (v := 0) hC dX15_place_163 rfl ?_
        obtain rfl := Option.some.inj h
        exact hr_sub _ rfl (J47)
      · rw [if_pos c44] at h
        refine hr_aload_n hC dX15_place_125 rfl ?_
        refine hr_gO 11 hC F16_1 rfl dX15_place_126 q768 ?_
        refine hr_iload hC dX15_place_129 rfl ?_
        obtain ⟨r49, e50, h⟩ := hx_bind h
        refine hs_callV0 hC 11 [_] _ dX15_place_131 q1961 q1655 q1656 q325 q1657 np_X11 rfl OB_11 pd_X11_size (Nat.le_of_ble_eq_true rfl) hd1 (okX11_size l E A (d - 1)  (by omega)  e50 am1) rfl ?_
        refine hr_iconst (v := (-1)) hC dX15_place_134 rfl ?_
        refine hr_icmp_eq (x := _) hC 163 dX15_place_135 (by decide) (fun c54 => ?_) (fun c54 => ?_)
        · rw [if_pos c54] at h
          refine hr_iconst (v := 0) hC dX15_place_163 rfl ?_
          obtain rfl := Option.some.inj h
          exact hr_sub _ rfl (J47)
        · rw [if_neg c54] at h
          refine hr_aload_n hC dX15_place_138 rfl ?_
          refine hr_gA hC F16_3 rfl dX15_place_139 q770 ?_
          refine hr_iload hC dX15_place_142 rfl ?_
          obtain ⟨c55, h⟩ := hk_ok h
          refine hs_iald hC A16_3 c55 dX15_place_144 ?_
          refine hr_iconst (v := (-1)) hC dX15_place_145 rfl ?_
          refine hr_icmp_ne (x := _) hC 163 dX15_place_146 (by decide) (fun c57 => ?_) (fun c57 => ?_)
          · rw [if_neg c57] at h
            refine hr_iconst (v := 0) hC dX15_place_163 rfl ?_
            obtain rfl := Option.some.inj h
            exact hr_sub _ rfl (J47)
          · rw [if_pos c57] at h
            refine hr_aload_n hC dX15_place_149 rfl ?_
            refine hr_iload_n hC dX15_place_150 rfl ?_
            refine hr_iload hC dX15_place_151 rfl ?_
            obtain ⟨r58, e59, h⟩ := hx_bind h
            refine hs_callV0 hC 16 [_, _] _ dX15_place_153 q1974 q1976 qs102 q329 q1977 np_X15 rfl OB_16 pd_X15_isParameter (Nat.le_of_ble_eq_true rfl) hd1 (okX15_isParameter l E A (d - 1) n (by omega)  e59 am1) rfl ?_
            refine hr_if_ne (x := _) hC 163 dX15_place_156 (by decide) (fun c63 => ?_) (fun c63 => ?_)
            · rw [if_neg c63] at h
              refine hr_iconst (v := 0) hC dX15_place_163 rfl ?_
              obtain rfl := Option.some.inj h
              exact hr_sub _ rfl (J47)
            · rw [if_pos c63] at h
              refine hr_iconst (v := 1) hC dX15_place_159 rfl ?_
              refine hr_goto hC 164 dX15_place_160 (by decide) ?_
              obtain rfl := Option.some.inj h
              exact hr_sub _ rfl (J47)
set_option maxRecDepth 20000 in
set_option maxHeartbeats 4000000 in
theorem okX15_place (l : Launch) (E : hc_E) (A : Nat → Prop) (d : Nat) (n : Nat) (hD : 3 ≤ d) {x1 : Int32} {x2 : Int32} {σ : hc_St} {r : hc_St} (h : fm_X15_place n x1 x2 σ = some r) (am : Nat → Nat → Nat) : hc_M l hc_V0 yX15_place (ws_ yX15_place cX15_place 7 none) d E A [.ref (E.2.1 16), .int x1, .int x2] am [] σ (.inl none) r := by
  have hd1 : 1 ≤ d := by omega
  refine hc_enter2 (own := RX15) [(0, .ref (E.2.1 16)), (1, .int x1), (2, .int x2)] pl_X15 rfl hc_V0_st hc_G0_nd rfl (Nat.le_of_ble_eq_true rfl) (fun X hC hem => ?_)
  unfold fm_X15_place at h
  refine hr_aload_n hC dX15_place_0 rfl ?_
  refine hr_iconst (v := 0) hC dX15_place_1 rfl ?_
  obtain ⟨σ1, hσ1, h⟩ := hl_ok h
  refine hr_pI hC F16_7 PX15_7 dX15_place_2 q774 ?_
  rw [← hσ1]
  refine hr_aload_n hC dX15_place_5 rfl ?_
  refine hr_gO 6 hC F16_0 rfl dX15_place_6 q767 ?_
  refine hr_iload_n hC dX15_place_9 rfl ?_
  obtain ⟨r2, e3, h⟩ := hx_bind h
  refine hs_callV0 hC 6 [_] _ dX15_place_10 q1955 q1576 q1577 q320 q1578 np_X6 rfl OB_6 pd_X6_first (Nat.le_of_ble_eq_true rfl) hd1 (okX6_first l E A (d - 1)  (by omega)  e3 am) rfl ?_
  refine hr_istore_n hC dX15_place_13 (by decide) ?_
  obtain ⟨r27, e28, h⟩ := hx_bind h
  refine hr_sub _ rfl (ll_X15_place_14 n hD hem hC n _ _ _ _ _ am e28 ?_)
  refine hr_aload_n hC dX15_place_79 rfl ?_
  refine hr_iconst (v := 0) hC dX15_place_80 rfl ?_
  obtain ⟨σ32, hσ32, h⟩ := hl_ok h
  refine hr_pI hC F16_8 PX15_8 dX15_place_81 q775 ?_
  rw [← hσ32]
  refine hr_aload_n hC dX15_place_84 rfl ?_
  refine hr_gI hC F16_7 dX15_place_85 q774 ?_
  refine hr_aload_n hC dX15_place_88 rfl ?_
  refine hr_gI hC F16_6 dX15_place_89 q773 ?_
  refine hr_iadd hC dX15_place_92 ?_
  refine hr_iconst (v := 2) hC dX15_place_93 rfl ?_
  refine hr_iadd hC dX15_place_94 ?_
  refine hr_istore hC dX15_place_95 (by decide) ?_
  refine hr_iconst (v := 0) hC dX15_place_97 rfl ?_
  refine hr_istore hC dX15_place_98 (by decide) ?_
  obtain ⟨r77, e78, h⟩ := hx_bind h
  refine hr_sub _ rfl (ll_X15_place_100 n hD hem hC n _ _ _ _ _ _ am e78 ?_)
  obtain rfl := Option.some.inj h
  exact hr_vret hC dX15_place_211
def lp_X15_find_6 (n : Nat) (k0 : Nat) : Nat → Int32 → Int32 → Int32 → hc_St → Option (hc_St)
  | 0, _, _, _, _ => none
  | m + 1, y1, y2, y3, σ => Option.bind (fm_X11_count  σ) fun r5 => if r5 ≤ y3 then (some (σ)) else (Option.bind (fm_X11_owner y3 σ) fun r11 => Option.bind (α := hc_St) (if r11 = y2 then (hk (inb y3 (gL σ 16 2)) <| hl (pC σ 16 2 y3 0) fun σ22 => hk (inb y3 (gL σ22 16 3)) <| hl (pC σ22 16 3 y3 ((-1))) fun σ24 => hk (inb y3 (gL σ24 16 4)) <| hl (pC σ24 16 4 y3 ((-1))) fun σ26 => some (σ26)) else (some (σ))) fun r17 => lp_X15_find_6 n k0 m y1 y2 ((y3 + 1)) r17)
def lp_X15_find_73 (n : Nat) (k0 : Nat) : Nat → Int32 → Int32 → Int32 → hc_St → Option (hc_St)
  | 0, _, _, _, _ => none
  | m + 1, y1, y2, y3, σ => if y3 = (-1) then (some (σ)) else (hl (pI σ 16 6 ((((gI σ 16 6)) + 1))) fun σ43 => Option.bind (fm_X15_register ((gI σ 16 6)) σ43) fun r44 => hk (inb y3 (gL σ43 16 3)) <| hl (pC σ43 16 3 y3 r44) fun σ49 => Option.bind (fm_X11_size y3 σ49) fun r50 => Option.bind (α := hc_St) (if r50 = (-1) then (hl (pI σ49 16 6 ((((gI σ49 16 6)) + 1))) fun σ60 => Option.bind (fm_X15_register ((gI σ49 16 6)) σ60) fun r61 => hk (inb y3 (gL σ60 16 4)) <| hl (pC σ60 16 4 y3 r61) fun σ66 => some (σ66)) else (some (σ49))) fun r56 => Option.bind (α := Int32) (if 10 ≤ (gI r56 16 6) then (some ((-1))) else (Option.bind (fm_X15_heaviest n y2 r56) fun r73 => some (r73))) fun r69 => lp_X15_find_73 n k0 m y1 y2 r69 r56)
/-- HomeCompiler$Homes.find(II)V -/
def fm_X15_find (n : Nat) (k0 : Nat) (x1 : Int32) (x2 : Int32) (σ : hc_St) : Option hc_St := Option.bind (fm_X15_room  σ) fun r1 => Option.bind (lp_X15_find_6 n k0 n x1 x2 0 r1) fun r27 => Option.bind (fm_X15_weigh n k0 x1 1 r27) fun r32 => hl (pI r32.2 16 6 0) fun σ36 => Option.bind (fm_X15_heaviest n x2 σ36) fun r37 => Option.bind (lp_X15_find_73 n k0 n x1 x2 r37 σ36) fun r77 => Option.bind (fm_X15_place n x1 x2 r77) fun r82 => some r82
set_option maxRecDepth 20000 in
set_option maxHeartbeats 4000000 in
theorem ll_X15_find_6 {l : Launch} {E : hc_E} {A : Nat → Prop} {am : Nat → Nat → Nat} {d : Nat} {X : hc_X} (n : Nat) (k0 : Nat) (hD : 1 * k0 + 4 ≤ d) (hem : X.2.2.2.2.2.2.2.2.2.1.exceptionTable.isEmpty = true) {oc : hc_Oc} {σe : hc_St} (hC : hc_C hc_V0 E cX15_find 4 RX15 none d oc σe (l, A, am, [16]) X) : ∀ (m : Nat) (σ : hc_St) (y1 : Int32) (y2 : Int32) (y3 : Int32) (rl : hc_St) (am1 : Nat → Nat → Nat), lp_X15_find_6 n k0 m y1 y2 y3 σ = some rl → (hc_At hc_V0 E 4 X 56 [(0, .ref (E.2.1 16)), (1, .int y1), (2, .int y2)] [] rl am1 []) → hc_At hc_V0 E 4 X 6 [(0, .ref (E.2.1 16)), (1, .int y1), (2, .int y2), (3, .int y3)] [] σ am1 [] := by
  have hd1 : 1 ≤ d := by omega
  intro m
  induction m with
  | zero =>
    intro σ y1 y2 y3 rl am1 h
    cases h
  | succ m ih =>
    intro σ y1 y2 y3 rl am1 h JX
    rw [lp_X15_find_6] at h
    refine hr_iload_n hC dX15_find_6 rfl ?_
    refine hr_aload_n hC dX15_find_7 rfl ?_
    refine hr_gO 11 hC F16_1 rfl dX15_find_8 q768 ?_
    obtain ⟨r5, e6, h⟩ := hx_bind h
    refine hs_callV0 hC 11 [] _ dX15_find_11 q1947 q1864 q1865 q325 q1866 np_X11 rfl OB_11 pd_X11_count (Nat.le_of_ble_eq_true rfl) hd1 (okX11_count l E A (d - 1)  (by omega)  e6 am1) rfl ?_
    refine hr_icmp_ge (x := _) hC 56 dX15_find_14 (by decide) (fun c10 => ?_) (fun c10 => ?_)
    · rw [if_pos c10] at h
      obtain rfl := Option.some.inj h
      exact hr_sub _ rfl (JX)
    · rw [if_neg c10] at h
      refine hr_aload_n hC dX15_find_17 rfl ?_
      refine hr_gO 11 hC F16_1 rfl dX15_find_18 q768 ?_
      refine hr_iload_n hC dX15_find_21 rfl ?_
      obtain ⟨r11, e12, h⟩ := hx_bind h
      refine hs_callV0 hC 11 [_] _ dX15_find_22 q1948 q1868 q1869 q325 q1870 np_X11 rfl OB_11 pd_X11_owner (Nat.le_of_ble_eq_true rfl) hd1 (okX11_owner l E A (d - 1)  (by omega)  e12 am1) rfl ?_
      refine hr_iload_n hC dX15_find_25 rfl ?_
      obtain ⟨r17, e18, h⟩ := hx_bind h
      have J19 : hc_At hc_V0 E 4 X 50 [(0, .ref (E.2.1 16)), (1, .int y1), (2, .int y2), (3, .int y3)] [] r17 am1 [] := by
        refine hr_iinc (v := y3 + 1) hC dX15_find_50 rfl rfl (by decide) ?_
        refine hr_goto hC 6 dX15_find_53 (by decide) ?_
        exact hr_sub _ rfl (ih _ _ _ _ _ am1 h JX)
      clear h
      have h := e18
      refine hr_icmp_ne (x := _) hC 50 dX15_find_26 (by decide) (fun c16 => ?_) (fun c16 => ?_)
      · rw [if_neg c16] at h
        obtain rfl := Option.some.inj h
        exact hr_sub _ rfl (J19)
      · rw [if_pos c16] at h
        refine hr_aload_n hC dX15_find_29 rfl ?_
        refine hr_gA hC F16_2 rfl dX15_find_30 q769 ?_
        refine hr_iload_n hC dX15_find_33 rfl ?_
        refine hr_iconst (v := 0) hC dX15_find_34 rfl ?_
        obtain ⟨c21, h⟩ := hk_ok h
        obtain ⟨σ22, hσ22, h⟩ := hl_ok h
        refine hs_iast hC A16_2 c21 dX15_find_35 ?_
        rw [← hσ22]
        refine hr_aload_n hC dX15_find_36 rfl ?_
        refine hr_gA hC F16_3 rfl dX15_find_37 q770 ?_
        refine hr_iload_n hC dX15_find_40 rfl ?_
        refine hr_iconst (v := (-1)) hC dX15_find_41 rfl ?_
        obtain ⟨c23, h⟩ := hk_ok h
        obtain ⟨σ24, hσ24, h⟩ := hl_ok h
        refine hs_iast hC A16_3 c23 dX15_find_42 ?_
        rw [← hσ24]
        refine hr_aload_n hC dX15_find_43 rfl ?_
        refine hr_gA hC F16_4 rfl dX15_find_44 q771 ?_
        refine hr_iload_n hC dX15_find_47 rfl ?_
        refine hr_iconst (v := (-1)) hC dX15_find_48 rfl ?_
        obtain ⟨c25, h⟩ := hk_ok h
        obtain ⟨σ26, hσ26, h⟩ := hl_ok h
        refine hs_iast hC A16_4 c25 dX15_find_49 ?_
        rw [← hσ26]
        obtain rfl := Option.some.inj h
        exact hr_sub _ rfl (J19)
set_option maxRecDepth 20000 in
set_option maxHeartbeats 4000000 in
theorem ll_X15_find_73 {l : Launch} {E : hc_E} {A : Nat → Prop} {am : Nat → Nat → Nat} {d : Nat} {X : hc_X} (n : Nat) (k0 : Nat) (hD : 1 * k0 + 4 ≤ d) (hem : X.2.2.2.2.2.2.2.2.2.1.exceptionTable.isEmpty = true) {oc : hc_Oc} {σe : hc_St} (hC : hc_C hc_V0 E cX15_find 4 RX15 none d oc σe (l, A, am, [16]) X) : ∀ (m : Nat) (σ : hc_St) (y1 : Int32) (y2 : Int32) (y3 : Int32) (rl : hc_St) (am1 : Nat → Nat → Nat), lp_X15_find_73 n k0 m y1 y2 y3 σ = some rl → (hc_At hc_V0 E 4 X 152 [(0, .ref (E.2.1 16)), (1, .int y1), (2, .int y2)] [] rl am1 []) → hc_At hc_V0 E 4 X 73 [(0, .ref (E.2.1 16)), (1, .int y1), (2, .int y2), (3, .int y3)] [] σ am1 [] := by
  have hd1 : 1 ≤ d := by omega
  intro m
  induction m with
  | zero =>
    intro σ y1 y2 y3 rl am1 h
    cases h
  | succ m ih =>
    intro σ y1 y2 y3 rl am1 h JX
    rw [lp_X15_find_73] at h
    refine hr_iload_n hC dX15_find_73 rfl ?_
    refine hr_iconst (v := (-1)) hC dX15_find_74 rfl ?_
    refine hr_icmp_eq (x := _) hC 152 dX15_find_75 (by decide) (fun c42 => ?_) (fun c42 => ?_)
    · rw [if_pos c42] at h
      obtain rfl := Option.some.inj h
      exact hr_sub _ rfl (JX)
    · rw [if_neg c42] at h
      refine hr_aload_n hC dX15_find_78 rfl ?_
      refine hr_gA hC F16_3 rfl dX15_find_79 q770 ?_
      refine hr_iload_n hC dX15_find_82 rfl ?_
      refine hr_aload_n hC dX15_find_83 rfl ?_
      refine hr_dup hC dX15_find_84 rfl ?_
      refine hr_gI hC F16_6 dX15_find_85 q773 ?_
      refine hr_dup_x1 hC dX15_find_88 rfl rfl ?_
      refine hr_iconst (v := 1) hC dX15_find_89 rfl ?_
      refine hr_iadd hC dX15_find_90 ?_
      obtain ⟨σ43, hσ43, h⟩ := hl_ok h
      refine hr_pI hC F16_6 PX15_6 dX15_find_91 q773 ?_
      rw [← hσ43]
      obtain ⟨r44, e45, h⟩ := hx_bind h
      refine hs_callS0 hC [_] _ dX15_find_94 q1962 q1963 q329 q1964 np_X15 rfl pd_X15_register (Nat.le_of_ble_eq_true rfl) hd1 (okX15_register l E A (d - 1)  (by omega)  e45 am1) rfl ?_
      obtain ⟨c48, h⟩ := hk_ok h
      obtain ⟨σ49, hσ49, h⟩ := hl_ok h
      refine hs_iast hC A16_3 c48 dX15_find_97 ?_
      rw [← hσ49]
      refine hr_aload_n hC dX15_find_98 rfl ?_
      refine hr_gO 11 hC F16_1 rfl dX15_find_99 q768 ?_
      refine hr_iload_n hC dX15_find_102 rfl ?_
      obtain ⟨r50, e51, h⟩ := hx_bind h
      refine hs_callV0 hC 11 [_] _ dX15_find_103 q1961 q1655 q1656 q325 q1657 np_X11 rfl OB_11 pd_X11_size (Nat.le_of_ble_eq_true rfl) hd1 (okX11_size l E A (d - 1)  (by omega)  e51 am1) rfl ?_
      refine hr_iconst (v := (-1)) hC dX15_find_106 rfl ?_
      obtain ⟨r56, e57, h⟩ := hx_bind h
      have J58 : hc_At hc_V0 E 4 X 130 [(0, .ref (E.2.1 16)), (1, .int y1), (2, .int y2)] [] r56 am1 [] := by
        refine hr_aload_n hC dX15_find_130 rfl ?_
        refine hr_gI hC F16_6 dX15_find_131 q773 ?_
        refine hr_bipush (v := 10) hC dX15_find_134 rfl ?_
        obtain ⟨r69, e70, h⟩ := hx_bind h
        have J71 : hc_At hc_V0 E 4 X 148 [(0, .ref (E.2.1 16)), (1, .int y1), (2, .int y2)] [.int r69] r56 am1 [] := by
          refine hr_istore_n hC dX15_find_148 (by decide) ?_
          refine hr_goto hC 73 dX15_find_149 (by decide) ?_
          exact hr_sub _ rfl (ih _ _ _ _ _ am1 h JX)
        clear h
        have h := e70
        refine hr_icmp_ge (x := _) hC 147 dX15_find_136 (by decide) (fun c68 => ?_) (fun c68 => ?_)
        · rw [if_pos c68] at h
          refine hr_iconst (v := (-1)) hC dX15_find_147 rfl ?_
          obtain rfl := Option.some.inj h
          exact hr_sub _ rfl (J71)
        · rw [if_neg c68] at h
          refine hr_aload_n hC dX15_find_139 rfl ?_
          refine hr_iload_n hC dX15_find_140 rfl ?_
          obtain ⟨r73, e74, h⟩ := hx_bind h
          refine hs_callV0 hC 16 [_] _ dX15_find_141 q1957 q1959 qs100 q329 q1960 np_X15 rfl OB_16 pd_X15_heaviest (Nat.le_of_ble_eq_true rfl) hd1 (okX15_heaviest l E A (d - 1) n (by omega)  e74 am1) rfl ?_
          refine hr_goto hC 148 dX15_find_144 (by decide) ?_
          obtain rfl := Option.some.inj h
          exact hr_sub _ rfl (J71)
      clear h
      have h := e57
      refine hr_icmp_ne (x := _) hC 130 dX15_find_107 (by decide) (fun c55 => ?_) (fun c55 => ?_)
      · rw [if_neg c55] at h
        obtain rfl := Option.some.inj h
        exact hr_sub _ rfl (J58)
      · rw [if_pos c55] at h
        refine hr_aload_n hC dX15_find_110 rfl ?_
        refine hr_gA hC F16_4 rfl dX15_find_111 q771 ?_
        refine hr_iload_n hC dX15_find_114 rfl ?_
        refine hr_aload_n hC dX15_find_115 rfl ?_
        refine hr_dup hC dX15_find_116 rfl ?_
        refine hr_gI hC F16_6 dX15_find_117 q773 ?_
        refine hr_dup_x1 hC dX15_find_120 rfl rfl ?_
        refine hr_iconst (v := 1) hC dX15_find_121 rfl ?_
        refine hr_iadd hC dX15_find_122 ?_
        obtain ⟨σ60, hσ60, h⟩ := hl_ok h
        refine hr_pI hC F16_6 PX15_6 dX15_find_123 q773 ?_
        rw [← hσ60]
        obtain ⟨r61, e62, h⟩ := hx_bind h
        refine hs_callS0 hC [_] _ dX15_find_126 q1962 q1963 q329 q1964 np_X15 rfl pd_X15_register (Nat.le_of_ble_eq_true rfl) hd1 (okX15_register l E A (d - 1)  (by omega)  e62 am1) rfl ?_
        obtain ⟨c65, h⟩ := hk_ok h
        obtain ⟨σ66, hσ66, h⟩ := hl_ok h
        refine hs_iast hC A16_4 c65 dX15_find_129 ?_
        rw [← hσ66]
        obtain rfl := Option.some.inj h
        exact hr_sub _ rfl (J58)
set_option maxRecDepth 20000 in
set_option maxHeartbeats 4000000 in
theorem okX15_find (l : Launch) (E : hc_E) (A : Nat → Prop) (d : Nat) (n : Nat) (k0 : Nat) (hD : 1 * k0 + 4 ≤ d) {x1 : Int32} {x2 : Int32} {σ : hc_St} {r : hc_St} (h : fm_X15_find n k0 x1 x2 σ = some r) (am : Nat → Nat → Nat) : hc_M l hc_V0 yX15_find (ws_ yX15_find cX15_find 4 none) d E A [.ref (E.2.1 16), .int x1, .int x2] am [16] σ (.inl none) r := by
  have hd1 : 1 ≤ d := by omega
  refine hc_enter2 (own := RX15) [(0, .ref (E.2.1 16)), (1, .int x1), (2, .int x2)] pl_X15 rfl hc_V0_st hc_G0_nd rfl (Nat.le_of_ble_eq_true rfl) (fun X hC hem => ?_)
  unfold fm_X15_find at h
  refine hr_aload_n hC dX15_find_0 rfl ?_
  obtain ⟨r1, e2, h⟩ := hx_bind h
  refine hs_callV hC 16 [] _ dX15_find_1 q1943 q1945 qs98 q329 q1946 np_X15 rfl OB_16 pd_X15_room (Nat.le_of_ble_eq_true rfl) hd1 (okX15_room l E A (d - 1)  (by omega)  e2 am) (hc_rb rfl) rfl (fun am3 ha4 => ?_)
  refine hr_iconst (v := 0) hC dX15_find_4 rfl ?_
  refine hr_istore_n hC dX15_find_5 (by decide) ?_
  obtain ⟨r27, e28, h⟩ := hx_bind h
  refine hr_sub _ rfl (ll_X15_find_6 n k0 hD hem hC n _ _ _ _ _ am3 e28 ?_)
  refine hr_aload_n hC dX15_find_56 rfl ?_
  refine hr_iload_n hC dX15_find_57 rfl ?_
  refine hr_iconst (v := 1) hC dX15_find_58 rfl ?_
  obtain ⟨r32, e33, h⟩ := hx_bind h
  refine hs_callV0 hC 16 [_, _] _ dX15_find_59 q1949 q1951 qs99 q329 q1952 np_X15 rfl OB_16 pd_X15_weigh (Nat.le_of_ble_eq_true rfl) hd1 (okX15_weigh l E A (d - 1) n k0 (by omega)  e33 am3) rfl ?_
  refine hr_aload_n hC dX15_find_62 rfl ?_
  refine hr_iconst (v := 0) hC dX15_find_63 rfl ?_
  obtain ⟨σ36, hσ36, h⟩ := hl_ok h
  refine hr_pI hC F16_6 PX15_6 dX15_find_64 q773 ?_
  rw [← hσ36]
  refine hr_aload_n hC dX15_find_67 rfl ?_
  refine hr_iload_n hC dX15_find_68 rfl ?_
  obtain ⟨r37, e38, h⟩ := hx_bind h
  refine hs_callV0 hC 16 [_] _ dX15_find_69 q1957 q1959 qs100 q329 q1960 np_X15 rfl OB_16 pd_X15_heaviest (Nat.le_of_ble_eq_true rfl) hd1 (okX15_heaviest l E A (d - 1) n (by omega)  e38 am3) rfl ?_
  refine hr_istore_n hC dX15_find_72 (by decide) ?_
  obtain ⟨r77, e78, h⟩ := hx_bind h
  refine hr_sub _ rfl (ll_X15_find_73 n k0 hD hem hC n _ _ _ _ _ am3 e78 ?_)
  refine hr_aload_n hC dX15_find_152 rfl ?_
  refine hr_iload_n hC dX15_find_153 rfl ?_
  refine hr_iload_n hC dX15_find_154 rfl ?_
  obtain ⟨r82, e83, h⟩ := hx_bind h
  refine hs_callV0 hC 16 [_, _] _ dX15_find_155 q1965 q1967 qs101 q329 q1968 np_X15 rfl OB_16 pd_X15_place (Nat.le_of_ble_eq_true rfl) hd1 (okX15_place l E A (d - 1) n (by omega)  e83 am3) rfl ?_
  obtain rfl := Option.some.inj h
  exact hr_vret hC dX15_find_158
/-- HomeCompiler$Generator.end(I)I -/
def fm_X13_end  (x1 : Int32) (σ : hc_St) : Option Int32 := hk (inb ((x1 - 16)) (gL σ 14 10)) <| some ((gC σ 14 10 ((x1 - 16))))
set_option maxRecDepth 20000 in
set_option maxHeartbeats 4000000 in
theorem okX13_end (l : Launch) (E : hc_E) (A : Nat → Prop) (d : Nat)  (hD : 1 ≤ d) {x1 : Int32} {σ : hc_St} {r : Int32} (h : fm_X13_end  x1 σ = some r) (am : Nat → Nat → Nat) : hc_M l hc_V0 yX13_end (ws_ yX13_end cX13_end 2 (some .int)) d E A [.ref (E.2.1 14), .int x1] am [] σ (.inl (some (.int r))) σ := by
  have hd1 : 1 ≤ d := by omega
  refine hc_enter2 (own := RX13) [(0, .ref (E.2.1 14)), (1, .int x1)] pl_X13 rfl hc_V0_st hc_G0_nd rfl (Nat.le_of_ble_eq_true rfl) (fun X hC hem => ?_)
  unfold fm_X13_end at h
  refine hr_aload_n hC dX13_end_0 rfl ?_
  refine hr_gA hC F14_10 rfl dX13_end_1 q805 ?_
  refine hr_iload_n hC dX13_end_4 rfl ?_
  refine hr_bipush (v := 16) hC dX13_end_5 rfl ?_
  refine hr_isub hC dX13_end_7 ?_
  obtain ⟨c1, h⟩ := hk_ok h
  refine hs_iald hC A14_10 c1 dX13_end_8 ?_
  obtain rfl := Option.some.inj h
  exact hr_iret hC dX13_end_9
/-- HomeCompiler$Emitter.branch(IIII)V -/
def fm_X12_branch  (x1 : Int32) (x2 : Int32) (x3 : Int32) (x4 : Int32) (σ : hc_St) : Option hc_St := Option.bind (fm_X12_emit ((((((((((jshl x3 20)) ||| ((jshl x2 15)))) ||| ((jshl ((x1 ^^^ 1)) 12)))) ||| 1024)) ||| 99)) σ) fun r1 => Option.bind (fm_X12_jump 0 x4 r1) fun r5 => some r5
set_option maxRecDepth 20000 in
set_option maxHeartbeats 4000000 in
theorem okX12_branch (l : Launch) (E : hc_E) (A : Nat → Prop) (d : Nat)  (hD : 7 ≤ d) {x1 : Int32} {x2 : Int32} {x3 : Int32} {x4 : Int32} {σ : hc_St} {r : hc_St} (h : fm_X12_branch  x1 x2 x3 x4 σ = some r) (am : Nat → Nat → Nat) : hc_M l hc_V0 yX12_branch (ws_ yX12_branch cX12_branch 5 none) d E A [.ref (E.2.1 13), .int x1, .int x2, .int x3, .int x4] am [13] σ (.inl none) r := by
  have hd1 : 1 ≤ d := by omega
  refine hc_enter2 (own := RX12) [(0, .ref (E.2.1 13)), (1, .int x1), (2, .int x2), (3, .int x3), (4, .int x4)] pl_X12 rfl hc_V0_st hc_G0_nd rfl (Nat.le_of_ble_eq_true rfl) (fun X hC hem => ?_)
  unfold fm_X12_branch at h
  refine hr_aload_n hC dX12_branch_0 rfl ?_
  refine hr_iload_n hC dX12_branch_1 rfl ?_
  refine hr_bipush (v := 20) hC dX12_branch_2 rfl ?_
  refine hr_ishl hC dX12_branch_4 ?_
  refine hr_iload_n hC dX12_branch_5 rfl ?_
  refine hr_bipush (v := 15) hC dX12_branch_6 rfl ?_
  refine hr_ishl hC dX12_branch_8 ?_
  refine hr_ior hC dX12_branch_9 ?_
  refine hr_iload_n hC dX12_branch_10 rfl ?_
  refine hr_iconst (v := 1) hC dX12_branch_11 rfl ?_
  refine hr_ixor hC dX12_branch_12 ?_
  refine hr_bipush (v := 12) hC dX12_branch_13 rfl ?_
  refine hr_ishl hC dX12_branch_15 ?_
  refine hr_ior hC dX12_branch_16 ?_
  refine hr_sipush (v := 1024) hC dX12_branch_17 rfl ?_
  refine hr_ior hC dX12_branch_20 ?_
  refine hr_bipush (v := 99) hC dX12_branch_21 rfl ?_
  refine hr_ior hC dX12_branch_23 ?_
  obtain ⟨r1, e2, h⟩ := hx_bind h
  refine hs_callV hC 13 [_] _ dX12_branch_24 q1900 q1901 q1902 q326 q1903 np_X12 rfl OB_13 pd_X12_emit (Nat.le_of_ble_eq_true rfl) hd1 (okX12_emit l E A (d - 1)  (by omega)  e2 am) (hc_rb rfl) rfl (fun am3 ha4 => ?_)
  refine hr_aload_n hC dX12_branch_27 rfl ?_
  refine hr_iconst (v := 0) hC dX12_branch_28 rfl ?_
  refine hr_iload hC dX12_branch_29 rfl ?_
  obtain ⟨r5, e6, h⟩ := hx_bind h
  refine hs_callV hC 13 [_, _] _ dX12_branch_31 q1991 q1905 q1906 q326 q1907 np_X12 rfl OB_13 pd_X12_jump (Nat.le_of_ble_eq_true rfl) hd1 (okX12_jump l E A (d - 1)  (by omega)  e6 am3) (hc_rb rfl) rfl (fun am7 ha8 => ?_)
  obtain rfl := Option.some.inj h
  exact hr_vret hC dX12_branch_34
/-- HomeCompiler$Generator.takeWork()V -/
def fm_X13_takeWork   (σ : hc_St) : Option hc_St := Option.bind (fm_X13_end 19 σ) fun r1 => Option.bind (fm_X12_branch 0 27 0 r1 σ) fun r5 => Option.bind (fm_X12_number 0 27 27 ((-1)) r5) fun r9 => some r9
set_option maxRecDepth 20000 in
set_option maxHeartbeats 4000000 in
theorem okX13_takeWork (l : Launch) (E : hc_E) (A : Nat → Prop) (d : Nat)  (hD : 8 ≤ d)  {σ : hc_St} {r : hc_St} (h : fm_X13_takeWork   σ = some r) (am : Nat → Nat → Nat) : hc_M l hc_V0 yX13_takeWork (ws_ yX13_takeWork cX13_takeWork 1 none) d E A [.ref (E.2.1 14)] am [13] σ (.inl none) r := by
  have hd1 : 1 ≤ d := by omega
  refine hc_enter2 (own := RX13) [(0, .ref (E.2.1 14))] pl_X13 rfl hc_V0_st hc_G0_nd rfl (Nat.le_of_ble_eq_true rfl) (fun X hC hem => ?_)
  unfold fm_X13_takeWork at h
  refine hr_aload_n hC dX13_takeWork_0 rfl ?_
  refine hr_gO 13 hC F14_5 rfl dX13_takeWork_1 q800 ?_
  refine hr_iconst (v := 0) hC dX13_takeWork_4 rfl ?_
  refine hr_bipush (v := 27) hC dX13_takeWork_5 rfl ?_
  refine hr_iconst (v := 0) hC dX13_takeWork_7 rfl ?_
  refine hr_aload_n hC dX13_takeWork_8 rfl ?_
  refine hr_bipush (v := 19) hC dX13_takeWork_9 rfl ?_
  obtain ⟨r1, e2, h⟩ := hx_bind h
  refine hs_callV0 hC 14 [_] _ dX13_takeWork_11 q1983 q1985 qs104 q327 q1986 np_X13 rfl OB_14 pd_X13_end (Nat.le_of_ble_eq_true rfl) hd1 (okX13_end l E A (d - 1)  (by omega)  e2 am) rfl ?_
  obtain ⟨r5, e6, h⟩ := hx_bind h
  refine hs_callV hC 13 [_, _, _, _] _ dX13_takeWork_14 q1987 q1988 q1989 q326 q1990 np_X12 rfl OB_13 pd_X12_branch (Nat.le_of_ble_eq_true rfl) hd1 (okX12_branch l E A (d - 1)  (by omega)  e6 am) (hc_rb rfl) rfl (fun am7 ha8 => ?_)
  refine hr_aload_n hC dX13_takeWork_17 rfl ?_
  refine hr_gO 13 hC F14_5 rfl dX13_takeWork_18 q800 ?_
  refine hr_iconst (v := 0) hC dX13_takeWork_21 rfl ?_
  refine hr_bipush (v := 27) hC dX13_takeWork_22 rfl ?_
  refine hr_bipush (v := 27) hC dX13_takeWork_24 rfl ?_
  refine hr_iconst (v := (-1)) hC dX13_takeWork_26 rfl ?_
  obtain ⟨r9, e10, h⟩ := hx_bind h
  refine hs_callV hC 13 [_, _, _, _] _ dX13_takeWork_27 q1992 q1913 q1914 q326 q1915 np_X12 rfl OB_13 pd_X12_number (Nat.le_of_ble_eq_true rfl) hd1 (okX12_number l E A (d - 1)  (by omega)  e10 am7) (hc_rb rfl) rfl (fun am11 ha12 => ?_)
  obtain rfl := Option.some.inj h
  exact hr_vret hC dX13_takeWork_30
/-- HomeCompiler$Emitter.both(IIIII)V -/
def fm_X12_both  (x1 : Int32) (x2 : Int32) (x3 : Int32) (x4 : Int32) (x5 : Int32) (σ : hc_St) : Option hc_St := Option.bind (fm_X12_emit ((((((((((((jshl x2 25)) ||| ((jshl x5 20)))) ||| ((jshl x4 15)))) ||| ((jshl x1 12)))) ||| ((jshl x3 7)))) ||| 51)) σ) fun r1 => some r1
set_option maxRecDepth 20000 in
set_option maxHeartbeats 4000000 in
theorem okX12_both (l : Launch) (E : hc_E) (A : Nat → Prop) (d : Nat)  (hD : 6 ≤ d) {x1 : Int32} {x2 : Int32} {x3 : Int32} {x4 : Int32} {x5 : Int32} {σ : hc_St} {r : hc_St} (h : fm_X12_both  x1 x2 x3 x4 x5 σ = some r) (am : Nat → Nat → Nat) : hc_M l hc_V0 yX12_both (ws_ yX12_both cX12_both 6 none) d E A [.ref (E.2.1 13), .int x1, .int x2, .int x3, .int x4, .int x5] am [13] σ (.inl none) r := by
  have hd1 : 1 ≤ d := by omega
  refine hc_enter2 (own := RX12) [(0, .ref (E.2.1 13)), (1, .int x1), (2, .int x2), (3, .int x3), (4, .int x4), (5, .int x5)] pl_X12 rfl hc_V0_st hc_G0_nd rfl (Nat.le_of_ble_eq_true rfl) (fun X hC hem => ?_)
  unfold fm_X12_both at h
  refine hr_aload_n hC dX12_both_0 rfl ?_
  refine hr_iload_n hC dX12_both_1 rfl ?_
  refine hr_bipush (v := 25) hC dX12_both_2 rfl ?_
  refine hr_ishl hC dX12_both_4 ?_
  refine hr_iload hC dX12_both_5 rfl ?_
  refine hr_bipush (v := 20) hC dX12_both_7 rfl ?_
  refine hr_ishl hC dX12_both_9 ?_
  refine hr_ior hC dX12_both_10 ?_
  refine hr_iload hC dX12_both_11 rfl ?_
  refine hr_bipush (v := 15) hC dX12_both_13 rfl ?_
  refine hr_ishl hC dX12_both_15 ?_
  refine hr_ior hC dX12_both_16 ?_
  refine hr_iload_n hC dX12_both_17 rfl ?_
  refine hr_bipush (v := 12) hC dX12_both_18 rfl ?_
  refine hr_ishl hC dX12_both_20 ?_
  refine hr_ior hC dX12_both_21 ?_
  refine hr_iload_n hC dX12_both_22 rfl ?_
  refine hr_bipush (v := 7) hC dX12_both_23 rfl ?_
  refine hr_ishl hC dX12_both_25 ?_
  refine hr_ior hC dX12_both_26 ?_
  refine hr_bipush (v := 51) hC dX12_both_27 rfl ?_
  refine hr_ior hC dX12_both_29 ?_
  obtain ⟨r1, e2, h⟩ := hx_bind h
  refine hs_callV hC 13 [_] _ dX12_both_30 q1900 q1901 q1902 q326 q1903 np_X12 rfl OB_13 pd_X12_emit (Nat.le_of_ble_eq_true rfl) hd1 (okX12_emit l E A (d - 1)  (by omega)  e2 am) (hc_rb rfl) rfl (fun am3 ha4 => ?_)
  obtain rfl := Option.some.inj h
  exact hr_vret hC dX12_both_33
/-- HomeCompiler$Emitter.add(IIII)V -/
def fm_X12_add  (x1 : Int32) (x2 : Int32) (x3 : Int32) (x4 : Int32) (σ : hc_St) : Option hc_St := Option.bind (α := hc_St) (if x3 < (-2048) then (Option.bind (fm_X12_set x4 x3 σ) fun r7 => Option.bind (fm_X12_both 0 0 x1 x2 x4 r7) fun r11 => some (r11)) else (if 2048 ≤ x3 then (Option.bind (fm_X12_set x4 x3 σ) fun r17 => Option.bind (fm_X12_both 0 0 x1 x2 x4 r17) fun r21 => some (r21)) else (Option.bind (fm_X12_number 0 x1 x2 x3 σ) fun r25 => some (r25)))) fun r3 => some r3
set_option maxRecDepth 20000 in
set_option maxHeartbeats 4000000 in
theorem okX12_add (l : Launch) (E : hc_E) (A : Nat → Prop) (d : Nat)  (hD : 9 ≤ d) {x1 : Int32} {x2 : Int32} {x3 : Int32} {x4 : Int32} {σ : hc_St} {r : hc_St} (h : fm_X12_add  x1 x2 x3 x4 σ = some r) (am : Nat → Nat → Nat) : hc_M l hc_V0 yX12_add (ws_ yX12_add cX12_add 5 none) d E A [.ref (E.2.1 13), .int x1, .int x2, .int x3, .int x4] am [13] σ (.inl none) r := by
  have hd1 : 1 ≤ d := by omega
  have hd8 : 9 ≤ d := by omega
  refine hc_enter2 (own := RX12) [(0, .ref (E.2.1 13)), (1, .int x1), (2, .int x2), (3, .int x3), (4, .int x4)] pl_X12 rfl hc_V0_st hc_G0_nd rfl (Nat.le_of_ble_eq_true rfl) (fun X hC hem => ?_)
  unfold fm_X12_add at h
  refine hr_iload_n hC dX12_add_0 rfl ?_
  refine hr_sipush (v := (-2048)) hC dX12_add_1 rfl ?_
  obtain ⟨r3, e4, h⟩ := hx_bind h
  have J5 : ∀ am29, hc_At hc_V0 E 5 X 42 [] [] r3 am29 [] := by
    intro am29
    obtain rfl := Option.some.inj h
    exact hr_vret hC dX12_add_42
  clear h
  have h := e4
  refine hr_icmp_lt (x := _) hC 25 dX12_add_4 (by decide) (fun c2 => ?_) (fun c2 => ?_)
  · rw [if_pos c2] at h
    refine hr_aload_n hC dX12_add_25 rfl ?_
    refine hr_iload hC dX12_add_26 rfl ?_
    refine hr_iload_n hC dX12_add_28 rfl ?_
    obtain ⟨r7, e8, h⟩ := hx_bind h
    refine hs_callV hC 13 [_, _] _ dX12_add_29 q1998 q1909 q1910 q326 q1911 np_X12 rfl OB_13 pd_X12_set (Nat.le_of_ble_eq_true rfl) hd1 (okX12_set l E A (d - 1)  (by omega)  e8 am) (hc_rb rfl) rfl (fun am9 ha10 => ?_)
    refine hr_aload_n hC dX12_add_32 rfl ?_
    refine hr_iconst (v := 0) hC dX12_add_33 rfl ?_
    refine hr_iconst (v := 0) hC dX12_add_34 rfl ?_
    refine hr_iload_n hC dX12_add_35 rfl ?_
    refine hr_iload_n hC dX12_add_36 rfl ?_
    refine hr_iload hC dX12_add_37 rfl ?_
    obtain ⟨r11, e12, h⟩ := hx_bind h
    refine hs_callV hC 13 [_, _, _, _, _] _ dX12_add_39 q1999 q2000 q2001 q326 q2002 np_X12 rfl OB_13 pd_X12_both (Nat.le_of_ble_eq_true rfl) hd1 (okX12_both l E A (d - 1)  (by omega)  e12 am9) (hc_rb rfl) rfl (fun am13 ha14 => ?_)
    obtain rfl := Option.some.inj h
    exact hr_sub _ rfl (J5 am13)
  · rw [if_neg c2] at h
    refine hr_iload_n hC dX12_add_7 rfl ?_
    refine hr_sipush (v := 2048) hC dX12_add_8 rfl ?_
    refine hr_icmp_ge (x := _) hC 25 dX12_add_11 (by decide) (fun c16 => ?_) (fun c16 => ?_)
    · rw [if_pos c16] at h
      refine hr_aload_n hC dX12_add_25 rfl ?_
      refine hr_iload hC dX12_add_26 rfl ?_
      refine hr_iload_n hC dX12_add_28 rfl ?_
      obtain ⟨r17, e18, h⟩ := hx_bind h
      refine hs_callV hC 13 [_, _] _ dX12_add_29 q1998 q1909 q1910 q326 q1911 np_X12 rfl OB_13 pd_X12_set (Nat.le_of_ble_eq_true rfl) hd1 (okX12_set l E A (d - 1)  (by omega)  e18 am) (hc_rb rfl) rfl (fun am19 ha20 => ?_)
      refine hr_aload_n hC dX12_add_32 rfl ?_
      refine hr_iconst (v := 0) hC dX12_add_33 rfl ?_
      refine hr_iconst (v := 0) hC dX12_add_34 rfl ?_
      refine hr_iload_n hC dX12_add_35 rfl ?_
      refine hr_iload_n hC dX12_add_36 rfl ?_
      refine hr_iload hC dX12_add_37 rfl ?_
      obtain ⟨r21, e22, h⟩ := hx_bind h
      refine hs_callV hC 13 [_, _, _, _, _] _ dX12_add_39 q1999 q2000 q2001 q326 q2002 np_X12 rfl OB_13 pd_X12_both (Nat.le_of_ble_eq_true rfl) hd1 (okX12_both l E A (d - 1)  (by omega)  e22 am19) (hc_rb rfl) rfl (fun am23 ha24 => ?_)
      obtain rfl := Option.some.inj h
      exact hr_sub _ rfl (J5 am23)
    · rw [if_neg c16] at h
      refine hr_aload_n hC dX12_add_14 rfl ?_
      refine hr_iconst (v := 0) hC dX12_add_15 rfl ?_
      refine hr_iload_n hC dX12_add_16 rfl ?_
      refine hr_iload_n hC dX12_add_17 rfl ?_
      refine hr_iload_n hC dX12_add_18 rfl ?_
      obtain ⟨r25, e26, h⟩ := hx_bind h
      refine hs_callV hC 13 [_, _, _, _] _ dX12_add_19 q1912 q1913 q1914 q326 q1915 np_X12 rfl OB_13 pd_X12_number (Nat.le_of_ble_eq_true rfl) hd1 (okX12_number l E A (d - 1)  (by omega)  e26 am) (hc_rb rfl) rfl (fun am27 ha28 => ?_)
      refine hr_goto hC 42 dX12_add_22 (by decide) ?_
      obtain rfl := Option.some.inj h
      exact hr_sub _ rfl (J5 am27)
/-- HomeCompiler$Emitter.move(II)V -/
def fm_X12_move  (x1 : Int32) (x2 : Int32) (σ : hc_St) : Option hc_St := Option.bind (α := hc_St) (if x1 = x2 then (some (σ)) else (Option.bind (fm_X12_number 0 x1 x2 0 σ) fun r7 => some (r7))) fun r3 => some r3
set_option maxRecDepth 20000 in
set_option maxHeartbeats 4000000 in
theorem okX12_move (l : Launch) (E : hc_E) (A : Nat → Prop) (d : Nat)  (hD : 7 ≤ d) {x1 : Int32} {x2 : Int32} {σ : hc_St} {r : hc_St} (h : fm_X12_move  x1 x2 σ = some r) (am : Nat → Nat → Nat) : hc_M l hc_V0 yX12_move (ws_ yX12_move cX12_move 3 none) d E A [.ref (E.2.1 13), .int x1, .int x2] am [13] σ (.inl none) r := by
  have hd1 : 1 ≤ d := by omega
  refine hc_enter2 (own := RX12) [(0, .ref (E.2.1 13)), (1, .int x1), (2, .int x2)] pl_X12 rfl hc_V0_st hc_G0_nd rfl (Nat.le_of_ble_eq_true rfl) (fun X hC hem => ?_)
  unfold fm_X12_move at h
  refine hr_iload_n hC dX12_move_0 rfl ?_
  refine hr_iload_n hC dX12_move_1 rfl ?_
  obtain ⟨r3, e4, h⟩ := hx_bind h
  have J5 : ∀ am11, hc_At hc_V0 E 3 X 13 [] [] r3 am11 [] := by
    intro am11
    obtain rfl := Option.some.inj h
    exact hr_vret hC dX12_move_13
  clear h
  have h := e4
  refine hr_icmp_eq (x := _) hC 13 dX12_move_2 (by decide) (fun c2 => ?_) (fun c2 => ?_)
  · rw [if_pos c2] at h
    obtain rfl := Option.some.inj h
    exact hr_sub _ rfl (J5 am)
  · rw [if_neg c2] at h
    refine hr_aload_n hC dX12_move_5 rfl ?_
    refine hr_iconst (v := 0) hC dX12_move_6 rfl ?_
    refine hr_iload_n hC dX12_move_7 rfl ?_
    refine hr_iload_n hC dX12_move_8 rfl ?_
    refine hr_iconst (v := 0) hC dX12_move_9 rfl ?_
    obtain ⟨r7, e8, h⟩ := hx_bind h
    refine hs_callV hC 13 [_, _, _, _] _ dX12_move_10 q1912 q1913 q1914 q326 q1915 np_X12 rfl OB_13 pd_X12_number (Nat.le_of_ble_eq_true rfl) hd1 (okX12_number l E A (d - 1)  (by omega)  e8 am) (hc_rb rfl) rfl (fun am9 ha10 => ?_)
    obtain rfl := Option.some.inj h
    exact hr_sub _ rfl (J5 am9)
/-- HomeCompiler$Emitter.hole(I)I -/
def fm_X12_hole  (x1 : Int32) (σ : hc_St) : Option (Int32 × hc_St) := Option.bind (fm_X12_setLong x1 0 σ) fun r1 => some ((gI σ 13 1), r1)
set_option maxRecDepth 20000 in
set_option maxHeartbeats 4000000 in
theorem okX12_hole (l : Launch) (E : hc_E) (A : Nat → Prop) (d : Nat)  (hD : 8 ≤ d) {x1 : Int32} {σ : hc_St} {r : (Int32 × hc_St)} (h : fm_X12_hole  x1 σ = some r) (am : Nat → Nat → Nat) : hc_M l hc_V0 yX12_hole (ws_ yX12_hole cX12_hole 3 (some .int)) d E A [.ref (E.2.1 13), .int x1] am [13] σ (.inl (some (.int r.1))) r.2 := by
  have hd1 : 1 ≤ d := by omega
  refine hc_enter2 (own := RX12) [(0, .ref (E.2.1 13)), (1, .int x1)] pl_X12 rfl hc_V0_st hc_G0_nd rfl (Nat.le_of_ble_eq_true rfl) (fun X hC hem => ?_)
  unfold fm_X12_hole at h
  refine hr_aload_n hC dX12_hole_0 rfl ?_
  refine hr_gI hC F13_1 dX12_hole_1 q717 ?_
  refine hr_istore_n hC dX12_hole_4 (by decide) ?_
  refine hr_aload_n hC dX12_hole_5 rfl ?_
  refine hr_iload_n hC dX12_hole_6 rfl ?_
  refine hr_iconst (v := 0) hC dX12_hole_7 rfl ?_
  obtain ⟨r1, e2, h⟩ := hx_bind h
  refine hs_callV hC 13 [_, _] _ dX12_hole_8 q1916 q1918 qs96 q326 q1919 np_X12 rfl OB_13 pd_X12_setLong (Nat.le_of_ble_eq_true rfl) hd1 (okX12_setLong l E A (d - 1)  (by omega)  e2 am) (hc_rb rfl) rfl (fun am3 ha4 => ?_)
  refine hr_iload_n hC dX12_hole_11 rfl ?_
  obtain rfl := Option.some.inj h
  exact hr_iret hC dX12_hole_12
/-- HomeCompiler$Homes.parameterWords()I -/
def fm_X15_parameterWords   (σ : hc_St) : Option Int32 := some ((gI σ 16 7))
set_option maxRecDepth 20000 in
set_option maxHeartbeats 4000000 in
theorem okX15_parameterWords (l : Launch) (E : hc_E) (A : Nat → Prop) (d : Nat)  (hD : 1 ≤ d)  {σ : hc_St} {r : Int32} (h : fm_X15_parameterWords   σ = some r) (am : Nat → Nat → Nat) : hc_M l hc_V0 yX15_parameterWords (ws_ yX15_parameterWords cX15_parameterWords 1 (some .int)) d E A [.ref (E.2.1 16)] am [] σ (.inl (some (.int r))) σ := by
  have hd1 : 1 ≤ d := by omega
  refine hc_enter2 (own := RX15) [(0, .ref (E.2.1 16))] pl_X15 rfl hc_V0_st hc_G0_nd rfl (Nat.le_of_ble_eq_true rfl) (fun X hC hem => ?_)
  unfold fm_X15_parameterWords at h
  refine hr_aload_n hC dX15_parameterWords_0 rfl ?_
  refine hr_gI hC F16_7 dX15_parameterWords_1 q774 ?_
  obtain rfl := Option.some.inj h
  exact hr_iret hC dX15_parameterWords_4
/-- HomeCompiler$Emitter.storeAt(IIII)V -/
def fm_X12_storeAt  (x1 : Int32) (x2 : Int32) (x3 : Int32) (x4 : Int32) (σ : hc_St) : Option hc_St := Option.bind (α := hc_St) (if x3 < (-2048) then (Option.bind (fm_X12_add x4 x2 x3 x4 σ) fun r7 => Option.bind (fm_X12_store 2 x4 x1 0 r7) fun r11 => some (r11)) else (if 2048 ≤ x3 then (Option.bind (fm_X12_add x4 x2 x3 x4 σ) fun r17 => Option.bind (fm_X12_store 2 x4 x1 0 r17) fun r21 => some (r21)) else (Option.bind (fm_X12_store 2 x2 x1 x3 σ) fun r25 => some (r25)))) fun r3 => some r3
set_option maxRecDepth 20000 in
set_option maxHeartbeats 4000000 in
theorem okX12_storeAt (l : Launch) (E : hc_E) (A : Nat → Prop) (d : Nat)  (hD : 10 ≤ d) {x1 : Int32} {x2 : Int32} {x3 : Int32} {x4 : Int32} {σ : hc_St} {r : hc_St} (h : fm_X12_storeAt  x1 x2 x3 x4 σ = some r) (am : Nat → Nat → Nat) : hc_M l hc_V0 yX12_storeAt (ws_ yX12_storeAt cX12_storeAt 5 none) d E A [.ref (E.2.1 13), .int x1, .int x2, .int x3, .int x4] am [13] σ (.inl none) r := by
  have hd1 : 1 ≤ d := by omega
  have hd8 : 9 ≤ d := by omega
  refine hc_enter2 (own := RX12) [(0, .ref (E.2.1 13)), (1, .int x1), (2, .int x2), (3, .int x3), (4, .int x4)] pl_X12 rfl hc_V0_st hc_G0_nd rfl (Nat.le_of_ble_eq_true rfl) (fun X hC hem => ?_)
  unfold fm_X12_storeAt at h
  refine hr_iload_n hC dX12_storeAt_0 rfl ?_
  refine hr_sipush (v := (-2048)) hC dX12_storeAt_1 rfl ?_
  obtain ⟨r3, e4, h⟩ := hx_bind h
  have J5 : ∀ am29, hc_At hc_V0 E 5 X 44 [] [] r3 am29 [] := by
    intro am29
    obtain rfl := Option.some.inj h
    exact hr_vret hC dX12_storeAt_44
  clear h
  have h := e4
  refine hr_icmp_lt (x := _) hC 25 dX12_storeAt_4 (by decide) (fun c2 => ?_) (fun c2 => ?_)
  · rw [if_pos c2] at h
    refine hr_aload_n hC dX12_storeAt_25 rfl ?_
    refine hr_iload hC dX12_storeAt_26 rfl ?_
    refine hr_iload_n hC dX12_storeAt_28 rfl ?_
    refine hr_iload_n hC dX12_storeAt_29 rfl ?_
    refine hr_iload hC dX12_storeAt_30 rfl ?_
    obtain ⟨r7, e8, h⟩ := hx_bind h
    refine hs_callV hC 13 [_, _, _, _] _ dX12_storeAt_32 q2025 q1995 q1996 q326 q1997 np_X12 rfl OB_13 pd_X12_add (Nat.le_of_ble_eq_true rfl) hd1 (okX12_add l E A (d - 1)  (by omega)  e8 am) (hc_rb rfl) rfl (fun am9 ha10 => ?_)
    refine hr_aload_n hC dX12_storeAt_35 rfl ?_
    refine hr_iconst (v := 2) hC dX12_storeAt_36 rfl ?_
    refine hr_iload hC dX12_storeAt_37 rfl ?_
    refine hr_iload_n hC dX12_storeAt_39 rfl ?_
    refine hr_iconst (v := 0) hC dX12_storeAt_40 rfl ?_
    obtain ⟨r11, e12, h⟩ := hx_bind h
    refine hs_callV hC 13 [_, _, _, _] _ dX12_storeAt_41 q2024 q1897 q1898 q326 q1899 np_X12 rfl OB_13 pd_X12_store (Nat.le_of_ble_eq_true rfl) hd1 (okX12_store l E A (d - 1)  (by omega)  e12 am9) (hc_rb rfl) rfl (fun am13 ha14 => ?_)
    obtain rfl := Option.some.inj h
    exact hr_sub _ rfl (J5 am13)
  · rw [if_neg c2] at h
    refine hr_iload_n hC dX12_storeAt_7 rfl ?_
    refine hr_sipush (v := 2048) hC dX12_storeAt_8 rfl ?_
    refine hr_icmp_ge (x := _) hC 25 dX12_storeAt_11 (by decide) (fun c16 => ?_) (fun c16 => ?_)
    · rw [if_pos c16] at h
      refine hr_aload_n hC dX12_storeAt_25 rfl ?_
      refine hr_iload hC dX12_storeAt_26 rfl ?_
      refine hr_iload_n hC dX12_storeAt_28 rfl ?_
      refine hr_iload_n hC dX12_storeAt_29 rfl ?_
      refine hr_iload hC dX12_storeAt_30 rfl ?_
      obtain ⟨r17, e18, h⟩ := hx_bind h
      refine hs_callV hC 13 [_, _, _, _] _ dX12_storeAt_32 q2025 q1995 q1996 q326 q1997 np_X12 rfl OB_13 pd_X12_add (Nat.le_of_ble_eq_true rfl) hd1 (okX12_add l E A (d - 1)  (by omega)  e18 am) (hc_rb rfl) rfl (fun am19 ha20 => ?_)
      refine hr_aload_n hC dX12_storeAt_35 rfl ?_
      refine hr_iconst (v := 2) hC dX12_storeAt_36 rfl ?_
      refine hr_iload hC dX12_storeAt_37 rfl ?_
      refine hr_iload_n hC dX12_storeAt_39 rfl ?_
      refine hr_iconst (v := 0) hC dX12_storeAt_40 rfl ?_
      obtain ⟨r21, e22, h⟩ := hx_bind h
      refine hs_callV hC 13 [_, _, _, _] _ dX12_storeAt_41 q2024 q1897 q1898 q326 q1899 np_X12 rfl OB_13 pd_X12_store (Nat.le_of_ble_eq_true rfl) hd1 (okX12_store l E A (d - 1)  (by omega)  e22 am19) (hc_rb rfl) rfl (fun am23 ha24 => ?_)
      obtain rfl := Option.some.inj h
      exact hr_sub _ rfl (J5 am23)
    · rw [if_neg c16] at h
      refine hr_aload_n hC dX12_storeAt_14 rfl ?_
      refine hr_iconst (v := 2) hC dX12_storeAt_15 rfl ?_
      refine hr_iload_n hC dX12_storeAt_16 rfl ?_
      refine hr_iload_n hC dX12_storeAt_17 rfl ?_
      refine hr_iload_n hC dX12_storeAt_18 rfl ?_
      obtain ⟨r25, e26, h⟩ := hx_bind h
      refine hs_callV hC 13 [_, _, _, _] _ dX12_storeAt_19 q2024 q1897 q1898 q326 q1899 np_X12 rfl OB_13 pd_X12_store (Nat.le_of_ble_eq_true rfl) hd1 (okX12_store l E A (d - 1)  (by omega)  e26 am) (hc_rb rfl) rfl (fun am27 ha28 => ?_)
      refine hr_goto hC 44 dX12_storeAt_22 (by decide) ?_
      obtain rfl := Option.some.inj h
      exact hr_sub _ rfl (J5 am27)
/-- HomeCompiler$Homes.used()I -/
def fm_X15_used   (σ : hc_St) : Option Int32 := some ((gI σ 16 6))
set_option maxRecDepth 20000 in
set_option maxHeartbeats 4000000 in
theorem okX15_used (l : Launch) (E : hc_E) (A : Nat → Prop) (d : Nat)  (hD : 1 ≤ d)  {σ : hc_St} {r : Int32} (h : fm_X15_used   σ = some r) (am : Nat → Nat → Nat) : hc_M l hc_V0 yX15_used (ws_ yX15_used cX15_used 1 (some .int)) d E A [.ref (E.2.1 16)] am [] σ (.inl (some (.int r))) σ := by
  have hd1 : 1 ≤ d := by omega
  refine hc_enter2 (own := RX15) [(0, .ref (E.2.1 16))] pl_X15 rfl hc_V0_st hc_G0_nd rfl (Nat.le_of_ble_eq_true rfl) (fun X hC hem => ?_)
  unfold fm_X15_used at h
  refine hr_aload_n hC dX15_used_0 rfl ?_
  refine hr_gI hC F16_6 dX15_used_1 q773 ?_
  obtain rfl := Option.some.inj h
  exact hr_iret hC dX15_used_4
/-- HomeCompiler$Homes.localWords()I -/
def fm_X15_localWords   (σ : hc_St) : Option Int32 := some ((gI σ 16 8))
set_option maxRecDepth 20000 in
set_option maxHeartbeats 4000000 in
theorem okX15_localWords (l : Launch) (E : hc_E) (A : Nat → Prop) (d : Nat)  (hD : 1 ≤ d)  {σ : hc_St} {r : Int32} (h : fm_X15_localWords   σ = some r) (am : Nat → Nat → Nat) : hc_M l hc_V0 yX15_localWords (ws_ yX15_localWords cX15_localWords 1 (some .int)) d E A [.ref (E.2.1 16)] am [] σ (.inl (some (.int r))) σ := by
  have hd1 : 1 ≤ d := by omega
  refine hc_enter2 (own := RX15) [(0, .ref (E.2.1 16))] pl_X15 rfl hc_V0_st hc_G0_nd rfl (Nat.le_of_ble_eq_true rfl) (fun X hC hem => ?_)
  unfold fm_X15_localWords at h
  refine hr_aload_n hC dX15_localWords_0 rfl ?_
  refine hr_gI hC F16_8 dX15_localWords_1 q775 ?_
  obtain rfl := Option.some.inj h
  exact hr_iret hC dX15_localWords_4
/-- HomeCompiler$Homes.words()I -/
def fm_X15_words   (σ : hc_St) : Option Int32 := some ((((((((gI σ 16 7)) + ((gI σ 16 6)))) + 2)) + ((gI σ 16 8))))
set_option maxRecDepth 20000 in
set_option maxHeartbeats 4000000 in
theorem okX15_words (l : Launch) (E : hc_E) (A : Nat → Prop) (d : Nat)  (hD : 1 ≤ d)  {σ : hc_St} {r : Int32} (h : fm_X15_words   σ = some r) (am : Nat → Nat → Nat) : hc_M l hc_V0 yX15_words (ws_ yX15_words cX15_words 1 (some .int)) d E A [.ref (E.2.1 16)] am [] σ (.inl (some (.int r))) σ := by
  have hd1 : 1 ≤ d := by omega
  refine hc_enter2 (own := RX15) [(0, .ref (E.2.1 16))] pl_X15 rfl hc_V0_st hc_G0_nd rfl (Nat.le_of_ble_eq_true rfl) (fun X hC hem => ?_)
  unfold fm_X15_words at h
  refine hr_aload_n hC dX15_words_0 rfl ?_
  refine hr_gI hC F16_7 dX15_words_1 q774 ?_
  refine hr_aload_n hC dX15_words_4 rfl ?_
  refine hr_gI hC F16_6 dX15_words_5 q773 ?_
  refine hr_iadd hC dX15_words_8 ?_
  refine hr_iconst (v := 2) hC dX15_words_9 rfl ?_
  refine hr_iadd hC dX15_words_10 ?_
  refine hr_aload_n hC dX15_words_11 rfl ?_
  refine hr_gI hC F16_8 dX15_words_12 q775 ?_
  refine hr_iadd hC dX15_words_15 ?_
  obtain rfl := Option.some.inj h
  exact hr_iret hC dX15_words_16
def lp_X13_clear_9 (n : Nat) : Nat → Int32 → Int32 → Int32 → Int32 → hc_St → Option (hc_St)
  | 0, _, _, _, _, _ => none
  | m + 1, y1, y2, y3, y4, σ => if y3 ≤ y4 then (some (σ)) else (Option.bind (fm_X12_storeAt 0 y1 ((y2 + ((4 * y4)))) 7 σ) fun r33 => lp_X13_clear_9 n m y1 y2 y3 ((y4 + 1)) r33)
/-- HomeCompiler$Generator.clear(III)V -/
def fm_X13_clear (n : Nat) (x1 : Int32) (x2 : Int32) (x3 : Int32) (σ : hc_St) : Option hc_St := if 8 < x3 then (Option.bind (fm_X12_add 5 x1 x2 5 σ) fun r3 => Option.bind (fm_X12_add 6 x1 ((x2 + ((4 * x3)))) 6 r3) fun r7 => Option.bind (fm_X12_label  r7) fun r11 => Option.bind (fm_X12_here r11.1 r11.2) fun r15 => Option.bind (fm_X12_store 2 5 0 0 r15) fun r19 => Option.bind (fm_X12_number 0 5 5 4 r19) fun r23 => Option.bind (fm_X12_branch 1 5 6 r11.1 r23) fun r27 => some r27) else (Option.bind (lp_X13_clear_9 n n x1 x2 x3 0 σ) fun r37 => some r37)
set_option maxRecDepth 20000 in
set_option maxHeartbeats 4000000 in
theorem ll_X13_clear_9 {l : Launch} {E : hc_E} {A : Nat → Prop} {am : Nat → Nat → Nat} {d : Nat} {X : hc_X} (n : Nat) (hD : 11 ≤ d) (hem : X.2.2.2.2.2.2.2.2.2.1.exceptionTable.isEmpty = true) {oc : hc_Oc} {σe : hc_St} (hC : hc_C hc_V0 E cX13_clear 5 RX13 none d oc σe (l, A, am, [13]) X) : ∀ (m : Nat) (σ : hc_St) (y1 : Int32) (y2 : Int32) (y3 : Int32) (y4 : Int32) (rl : hc_St), lp_X13_clear_9 n m y1 y2 y3 y4 σ = some rl → (∀ am1, hc_At hc_V0 E 5 X 38 [] [] rl am1 []) → ∀ am1, hc_At hc_V0 E 5 X 9 [(0, .ref (E.2.1 14)), (1, .int y1), (2, .int y2), (3, .int y3), (4, .int y4)] [] σ am1 [] := by
  have hd1 : 1 ≤ d := by omega
  have hd8 : 9 ≤ d := by omega
  intro m
  induction m with
  | zero =>
    intro σ y1 y2 y3 y4 rl h
    cases h
  | succ m ih =>
    intro σ y1 y2 y3 y4 rl h JX am1
    rw [lp_X13_clear_9] at h
    refine hr_iload hC dX13_clear_9 rfl ?_
    refine hr_iload_n hC dX13_clear_11 rfl ?_
    refine hr_icmp_ge (x := _) hC 38 dX13_clear_12 (by decide) (fun c32 => ?_) (fun c32 => ?_)
    · rw [if_pos c32] at h
      obtain rfl := Option.some.inj h
      exact hr_sub _ rfl (JX am1)
    · rw [if_neg c32] at h
      refine hr_aload_n hC dX13_clear_15 rfl ?_
      refine hr_gO 13 hC F14_5 rfl dX13_clear_16 q800 ?_
      refine hr_iconst (v := 0) hC dX13_clear_19 rfl ?_
      refine hr_iload_n hC dX13_clear_20 rfl ?_
      refine hr_iload_n hC dX13_clear_21 rfl ?_
      refine hr_iconst (v := 4) hC dX13_clear_22 rfl ?_
      refine hr_iload hC dX13_clear_23 rfl ?_
      refine hr_imul hC dX13_clear_25 ?_
      refine hr_iadd hC dX13_clear_26 ?_
      refine hr_bipush (v := 7) hC dX13_clear_27 rfl ?_
      obtain ⟨r33, e34, h⟩ := hx_bind h
      refine hs_callV hC 13 [_, _, _, _] _ dX13_clear_29 q2020 q2021 q2022 q326 q2023 np_X12 rfl OB_13 pd_X12_storeAt (Nat.le_of_ble_eq_true rfl) hd1 (okX12_storeAt l E A (d - 1)  (by omega)  e34 am1) (hc_rb rfl) rfl (fun am35 ha36 => ?_)
      refine hr_iinc (v := y4 + 1) hC dX13_clear_32 rfl rfl (by decide) ?_
      refine hr_goto hC 9 dX13_clear_35 (by decide) ?_
      exact hr_sub _ rfl (ih _ _ _ _ _ _ h JX am35)
set_option maxRecDepth 20000 in
set_option maxHeartbeats 4000000 in
theorem okX13_clear (l : Launch) (E : hc_E) (A : Nat → Prop) (d : Nat) (n : Nat) (hD : 11 ≤ d) {x1 : Int32} {x2 : Int32} {x3 : Int32} {σ : hc_St} {r : hc_St} (h : fm_X13_clear n x1 x2 x3 σ = some r) (am : Nat → Nat → Nat) : hc_M l hc_V0 yX13_clear (ws_ yX13_clear cX13_clear 5 none) d E A [.ref (E.2.1 14), .int x1, .int x2, .int x3] am [13] σ (.inl none) r := by
  have hd1 : 1 ≤ d := by omega
  have hd8 : 9 ≤ d := by omega
  refine hc_enter2 (own := RX13) [(0, .ref (E.2.1 14)), (1, .int x1), (2, .int x2), (3, .int x3)] pl_X13 rfl hc_V0_st hc_G0_nd rfl (Nat.le_of_ble_eq_true rfl) (fun X hC hem => ?_)
  unfold fm_X13_clear at h
  refine hr_iload_n hC dX13_clear_0 rfl ?_
  refine hr_bipush (v := 8) hC dX13_clear_1 rfl ?_
  refine hr_icmp_gt (x := _) hC 39 dX13_clear_3 (by decide) (fun c2 => ?_) (fun c2 => ?_)
  · rw [if_pos c2] at h
    refine hr_aload_n hC dX13_clear_39 rfl ?_
    refine hr_gO 13 hC F14_5 rfl dX13_clear_40 q800 ?_
    refine hr_iconst (v := 5) hC dX13_clear_43 rfl ?_
    refine hr_iload_n hC dX13_clear_44 rfl ?_
    refine hr_iload_n hC dX13_clear_45 rfl ?_
    refine hr_iconst (v := 5) hC dX13_clear_46 rfl ?_
    obtain ⟨r3, e4, h⟩ := hx_bind h
    refine hs_callV hC 13 [_, _, _, _] _ dX13_clear_47 q1994 q1995 q1996 q326 q1997 np_X12 rfl OB_13 pd_X12_add (Nat.le_of_ble_eq_true rfl) hd1 (okX12_add l E A (d - 1)  (by omega)  e4 am) (hc_rb rfl) rfl (fun am5 ha6 => ?_)
    refine hr_aload_n hC dX13_clear_50 rfl ?_
    refine hr_gO 13 hC F14_5 rfl dX13_clear_51 q800 ?_
    refine hr_bipush (v := 6) hC dX13_clear_54 rfl ?_
    refine hr_iload_n hC dX13_clear_56 rfl ?_
    refine hr_iload_n hC dX13_clear_57 rfl ?_
    refine hr_iconst (v := 4) hC dX13_clear_58 rfl ?_
    refine hr_iload_n hC dX13_clear_59 rfl ?_
    refine hr_imul hC dX13_clear_60 ?_
    refine hr_iadd hC dX13_clear_61 ?_
    refine hr_bipush (v := 6) hC dX13_clear_62 rfl ?_
    obtain ⟨r7, e8, h⟩ := hx_bind h
    refine hs_callV hC 13 [_, _, _, _] _ dX13_clear_64 q1994 q1995 q1996 q326 q1997 np_X12 rfl OB_13 pd_X12_add (Nat.le_of_ble_eq_true rfl) hd1 (okX12_add l E A (d - 1)  (by omega)  e8 am5) (hc_rb rfl) rfl (fun am9 ha10 => ?_)
    refine hr_aload_n hC dX13_clear_67 rfl ?_
    refine hr_gO 13 hC F14_5 rfl dX13_clear_68 q800 ?_
    obtain ⟨r11, e12, h⟩ := hx_bind h
    refine hs_callV hC 13 [] _ dX13_clear_71 q1888 q1889 q1890 q326 q1891 np_X12 rfl OB_13 pd_X12_label (Nat.le_of_ble_eq_true rfl) hd1 (okX12_label l E A (d - 1)  (by omega)  e12 am9) (hc_rb rfl) rfl (fun am13 ha14 => ?_)
    refine hr_istore hC dX13_clear_74 (by decide) ?_
    refine hr_aload_n hC dX13_clear_76 rfl ?_
    refine hr_gO 13 hC F14_5 rfl dX13_clear_77 q800 ?_
    refine hr_iload hC dX13_clear_80 rfl ?_
    obtain ⟨r15, e16, h⟩ := hx_bind h
    refine hs_callV0 hC 13 [_] _ dX13_clear_82 q1927 q1928 q1929 q326 q1930 np_X12 rfl OB_13 pd_X12_here (Nat.le_of_ble_eq_true rfl) hd1 (okX12_here l E A (d - 1)  (by omega)  e16 am13) rfl ?_
    refine hr_aload_n hC dX13_clear_85 rfl ?_
    refine hr_gO 13 hC F14_5 rfl dX13_clear_86 q800 ?_
    refine hr_iconst (v := 2) hC dX13_clear_89 rfl ?_
    refine hr_iconst (v := 5) hC dX13_clear_90 rfl ?_
    refine hr_iconst (v := 0) hC dX13_clear_91 rfl ?_
    refine hr_iconst (v := 0) hC dX13_clear_92 rfl ?_
    obtain ⟨r19, e20, h⟩ := hx_bind h
    refine hs_callV hC 13 [_, _, _, _] _ dX13_clear_93 q1896 q1897 q1898 q326 q1899 np_X12 rfl OB_13 pd_X12_store (Nat.le_of_ble_eq_true rfl) hd1 (okX12_store l E A (d - 1)  (by omega)  e20 am13) (hc_rb rfl) rfl (fun am21 ha22 => ?_)
    refine hr_aload_n hC dX13_clear_96 rfl ?_
    refine hr_gO 13 hC F14_5 rfl dX13_clear_97 q800 ?_
    refine hr_iconst (v := 0) hC dX13_clear_100 rfl ?_
    refine hr_iconst (v := 5) hC dX13_clear_101 rfl ?_
    refine hr_iconst (v := 5) hC dX13_clear_102 rfl ?_
    refine hr_iconst (v := 4) hC dX13_clear_103 rfl ?_
    obtain ⟨r23, e24, h⟩ := hx_bind h
    refine hs_callV hC 13 [_, _, _, _] _ dX13_clear_104 q1992 q1913 q1914 q326 q1915 np_X12 rfl OB_13 pd_X12_number (Nat.le_of_ble_eq_true rfl) hd1 (okX12_number l E A (d - 1)  (by omega)  e24 am21) (hc_rb rfl) rfl (fun am25 ha26 => ?_)
    refine hr_aload_n hC dX13_clear_107 rfl ?_
    refine hr_gO 13 hC F14_5 rfl dX13_clear_108 q800 ?_
    refine hr_iconst (v := 1) hC dX13_clear_111 rfl ?_
    refine hr_iconst (v := 5) hC dX13_clear_112 rfl ?_
    refine hr_bipush (v := 6) hC dX13_clear_113 rfl ?_
    refine hr_iload hC dX13_clear_115 rfl ?_
    obtain ⟨r27, e28, h⟩ := hx_bind h
    refine hs_callV hC 13 [_, _, _, _] _ dX13_clear_117 q1987 q1988 q1989 q326 q1990 np_X12 rfl OB_13 pd_X12_branch (Nat.le_of_ble_eq_true rfl) hd1 (okX12_branch l E A (d - 1)  (by omega)  e28 am25) (hc_rb rfl) rfl (fun am29 ha30 => ?_)
    obtain rfl := Option.some.inj h
    exact hr_vret hC dX13_clear_120
  · rw [if_neg c2] at h
    refine hr_iconst (v := 0) hC dX13_clear_6 rfl ?_
    refine hr_istore hC dX13_clear_7 (by decide) ?_
    obtain ⟨r37, e38, h⟩ := hx_bind h
    refine hr_sub _ rfl (ll_X13_clear_9 n hD hem hC n _ _ _ _ _ _ e38 (fun am41 => ?_) am)
    obtain rfl := Option.some.inj h
    exact hr_vret hC dX13_clear_38
/-- HomeCompiler$Homes.of(I)I -/
def fm_X15_of  (x1 : Int32) (σ : hc_St) : Option Int32 := hk (inb x1 (gL σ 16 3)) <| some ((gC σ 16 3 x1))
set_option maxRecDepth 20000 in
set_option maxHeartbeats 4000000 in
theorem okX15_of (l : Launch) (E : hc_E) (A : Nat → Prop) (d : Nat)  (hD : 1 ≤ d) {x1 : Int32} {σ : hc_St} {r : Int32} (h : fm_X15_of  x1 σ = some r) (am : Nat → Nat → Nat) : hc_M l hc_V0 yX15_of (ws_ yX15_of cX15_of 2 (some .int)) d E A [.ref (E.2.1 16), .int x1] am [] σ (.inl (some (.int r))) σ := by
  have hd1 : 1 ≤ d := by omega
  refine hc_enter2 (own := RX15) [(0, .ref (E.2.1 16)), (1, .int x1)] pl_X15 rfl hc_V0_st hc_G0_nd rfl (Nat.le_of_ble_eq_true rfl) (fun X hC hem => ?_)
  unfold fm_X15_of at h
  refine hr_aload_n hC dX15_of_0 rfl ?_
  refine hr_gA hC F16_3 rfl dX15_of_1 q770 ?_
  refine hr_iload_n hC dX15_of_4 rfl ?_
  obtain ⟨c1, h⟩ := hk_ok h
  refine hs_iald hC A16_3 c1 dX15_of_5 ?_
  obtain rfl := Option.some.inj h
  exact hr_iret hC dX15_of_6
/-- HomeCompiler$Homes.place(I)I -/
def fm_X15_place_2  (x1 : Int32) (σ : hc_St) : Option Int32 := hk (inb x1 (gL σ 16 5)) <| some ((gC σ 16 5 x1))
set_option maxRecDepth 20000 in
set_option maxHeartbeats 4000000 in
theorem okX15_place_2 (l : Launch) (E : hc_E) (A : Nat → Prop) (d : Nat)  (hD : 1 ≤ d) {x1 : Int32} {σ : hc_St} {r : Int32} (h : fm_X15_place_2  x1 σ = some r) (am : Nat → Nat → Nat) : hc_M l hc_V0 yX15_place_2 (ws_ yX15_place_2 cX15_place_2 2 (some .int)) d E A [.ref (E.2.1 16), .int x1] am [] σ (.inl (some (.int r))) σ := by
  have hd1 : 1 ≤ d := by omega
  refine hc_enter2 (own := RX15) [(0, .ref (E.2.1 16)), (1, .int x1)] pl_X15 rfl hc_V0_st hc_G0_nd rfl (Nat.le_of_ble_eq_true rfl) (fun X hC hem => ?_)
  unfold fm_X15_place_2 at h
  refine hr_aload_n hC dX15_place_2_0 rfl ?_
  refine hr_gA hC F16_5 rfl dX15_place_2_1 q772 ?_
  refine hr_iload_n hC dX15_place_2_4 rfl ?_
  obtain ⟨c1, h⟩ := hk_ok h
  refine hs_iald hC A16_5 c1 dX15_place_2_5 ?_
  obtain rfl := Option.some.inj h
  exact hr_iret hC dX15_place_2_6
/-- HomeCompiler$Emitter.load(IIII)V -/
def fm_X12_load  (x1 : Int32) (x2 : Int32) (x3 : Int32) (x4 : Int32) (σ : hc_St) : Option hc_St := Option.bind (fm_X12_emit ((((((((((jshl ((x4 &&& 4095)) 20)) ||| ((jshl x3 15)))) ||| ((jshl x1 12)))) ||| ((jshl x2 7)))) ||| 3)) σ) fun r1 => some r1
set_option maxRecDepth 20000 in
set_option maxHeartbeats 4000000 in
theorem okX12_load (l : Launch) (E : hc_E) (A : Nat → Prop) (d : Nat)  (hD : 6 ≤ d) {x1 : Int32} {x2 : Int32} {x3 : Int32} {x4 : Int32} {σ : hc_St} {r : hc_St} (h : fm_X12_load  x1 x2 x3 x4 σ = some r) (am : Nat → Nat → Nat) : hc_M l hc_V0 yX12_load (ws_ yX12_load cX12_load 5 none) d E A [.ref (E.2.1 13), .int x1, .int x2, .int x3, .int x4] am [13] σ (.inl none) r := by
  have hd1 : 1 ≤ d := by omega
  refine hc_enter2 (own := RX12) [(0, .ref (E.2.1 13)), (1, .int x1), (2, .int x2), (3, .int x3), (4, .int x4)] pl_X12 rfl hc_V0_st hc_G0_nd rfl (Nat.le_of_ble_eq_true rfl) (fun X hC hem => ?_)
  unfold fm_X12_load at h
  refine hr_aload_n hC dX12_load_0 rfl ?_
  refine hr_iload hC dX12_load_1 rfl ?_
  refine hr_sipush (v := 4095) hC dX12_load_3 rfl ?_
  refine hr_iand hC dX12_load_6 ?_
  refine hr_bipush (v := 20) hC dX12_load_7 rfl ?_
  refine hr_ishl hC dX12_load_9 ?_
  refine hr_iload_n hC dX12_load_10 rfl ?_
  refine hr_bipush (v := 15) hC dX12_load_11 rfl ?_
  refine hr_ishl hC dX12_load_13 ?_
  refine hr_ior hC dX12_load_14 ?_
  refine hr_iload_n hC dX12_load_15 rfl ?_
  refine hr_bipush (v := 12) hC dX12_load_16 rfl ?_
  refine hr_ishl hC dX12_load_18 ?_
  refine hr_ior hC dX12_load_19 ?_
  refine hr_iload_n hC dX12_load_20 rfl ?_
  refine hr_bipush (v := 7) hC dX12_load_21 rfl ?_
  refine hr_ishl hC dX12_load_23 ?_
  refine hr_ior hC dX12_load_24 ?_
  refine hr_iconst (v := 3) hC dX12_load_25 rfl ?_
  refine hr_ior hC dX12_load_26 ?_
  obtain ⟨r1, e2, h⟩ := hx_bind h
  refine hs_callV hC 13 [_] _ dX12_load_27 q1900 q1901 q1902 q326 q1903 np_X12 rfl OB_13 pd_X12_emit (Nat.le_of_ble_eq_true rfl) hd1 (okX12_emit l E A (d - 1)  (by omega)  e2 am) (hc_rb rfl) rfl (fun am3 ha4 => ?_)
  obtain rfl := Option.some.inj h
  exact hr_vret hC dX12_load_30
/-- HomeCompiler$Emitter.loadAt(IIII)V -/
def fm_X12_loadAt  (x1 : Int32) (x2 : Int32) (x3 : Int32) (x4 : Int32) (σ : hc_St) : Option hc_St := Option.bind (α := hc_St) (if x3 < (-2048) then (Option.bind (fm_X12_add x4 x2 x3 x4 σ) fun r7 => Option.bind (fm_X12_load 2 x1 x4 0 r7) fun r11 => some (r11)) else (if 2048 ≤ x3 then (Option.bind (fm_X12_add x4 x2 x3 x4 σ) fun r17 => Option.bind (fm_X12_load 2 x1 x4 0 r17) fun r21 => some (r21)) else (Option.bind (fm_X12_load 2 x1 x2 x3 σ) fun r25 => some (r25)))) fun r3 => some r3
set_option maxRecDepth 20000 in
set_option maxHeartbeats 4000000 in
theorem okX12_loadAt (l : Launch) (E : hc_E) (A : Nat → Prop) (d : Nat)  (hD : 10 ≤ d) {x1 : Int32} {x2 : Int32} {x3 : Int32} {x4 : Int32} {σ : hc_St} {r : hc_St} (h : fm_X12_loadAt  x1 x2 x3 x4 σ = some r) (am : Nat → Nat → Nat) : hc_M l hc_V0 yX12_loadAt (ws_ yX12_loadAt cX12_loadAt 5 none) d E A [.ref (E.2.1 13), .int x1, .int x2, .int x3, .int x4] am [13] σ (.inl none) r := by
  have hd1 : 1 ≤ d := by omega
  have hd8 : 9 ≤ d := by omega
  refine hc_enter2 (own := RX12) [(0, .ref (E.2.1 13)), (1, .int x1), (2, .int x2), (3, .int x3), (4, .int x4)] pl_X12 rfl hc_V0_st hc_G0_nd rfl (Nat.le_of_ble_eq_true rfl) (fun X hC hem => ?_)
  unfold fm_X12_loadAt at h
  refine hr_iload_n hC dX12_loadAt_0 rfl ?_
  refine hr_sipush (v := (-2048)) hC dX12_loadAt_1 rfl ?_
  obtain ⟨r3, e4, h⟩ := hx_bind h
  have J5 : ∀ am29, hc_At hc_V0 E 5 X 44 [] [] r3 am29 [] := by
    intro am29
    obtain rfl := Option.some.inj h
    exact hr_vret hC dX12_loadAt_44
  clear h
  have h := e4
  refine hr_icmp_lt (x := _) hC 25 dX12_loadAt_4 (by decide) (fun c2 => ?_) (fun c2 => ?_)
  · rw [if_pos c2] at h
    refine hr_aload_n hC dX12_loadAt_25 rfl ?_
    refine hr_iload hC dX12_loadAt_26 rfl ?_
    refine hr_iload_n hC dX12_loadAt_28 rfl ?_
    refine hr_iload_n hC dX12_loadAt_29 rfl ?_
    refine hr_iload hC dX12_loadAt_30 rfl ?_
    obtain ⟨r7, e8, h⟩ := hx_bind h
    refine hs_callV hC 13 [_, _, _, _] _ dX12_loadAt_32 q2025 q1995 q1996 q326 q1997 np_X12 rfl OB_13 pd_X12_add (Nat.le_of_ble_eq_true rfl) hd1 (okX12_add l E A (d - 1)  (by omega)  e8 am) (hc_rb rfl) rfl (fun am9 ha10 => ?_)
    refine hr_aload_n hC dX12_loadAt_35 rfl ?_
    refine hr_iconst (v := 2) hC dX12_loadAt_36 rfl ?_
    refine hr_iload_n hC dX12_loadAt_37 rfl ?_
    refine hr_iload hC dX12_loadAt_38 rfl ?_
    refine hr_iconst (v := 0) hC dX12_loadAt_40 rfl ?_
    obtain ⟨r11, e12, h⟩ := hx_bind h
    refine hs_callV hC 13 [_, _, _, _] _ dX12_loadAt_41 q2060 q2061 q2062 q326 q2063 np_X12 rfl OB_13 pd_X12_load (Nat.le_of_ble_eq_true rfl) hd1 (okX12_load l E A (d - 1)  (by omega)  e12 am9) (hc_rb rfl) rfl (fun am13 ha14 => ?_)
    obtain rfl := Option.some.inj h
    exact hr_sub _ rfl (J5 am13)
  · rw [if_neg c2] at h
    refine hr_iload_n hC dX12_loadAt_7 rfl ?_
    refine hr_sipush (v := 2048) hC dX12_loadAt_8 rfl ?_
    refine hr_icmp_ge (x := _) hC 25 dX12_loadAt_11 (by decide) (fun c16 => ?_) (fun c16 => ?_)
    · rw [if_pos c16] at h
      refine hr_aload_n hC dX12_loadAt_25 rfl ?_
      refine hr_iload hC dX12_loadAt_26 rfl ?_
      refine hr_iload_n hC dX12_loadAt_28 rfl ?_
      refine hr_iload_n hC dX12_loadAt_29 rfl ?_
      refine hr_iload hC dX12_loadAt_30 rfl ?_
      obtain ⟨r17, e18, h⟩ := hx_bind h
      refine hs_callV hC 13 [_, _, _, _] _ dX12_loadAt_32 q2025 q1995 q1996 q326 q1997 np_X12 rfl OB_13 pd_X12_add (Nat.le_of_ble_eq_true rfl) hd1 (okX12_add l E A (d - 1)  (by omega)  e18 am) (hc_rb rfl) rfl (fun am19 ha20 => ?_)
      refine hr_aload_n hC dX12_loadAt_35 rfl ?_
      refine hr_iconst (v := 2) hC dX12_loadAt_36 rfl ?_
      refine hr_iload_n hC dX12_loadAt_37 rfl ?_
      refine hr_iload hC dX12_loadAt_38 rfl ?_
      refine hr_iconst (v := 0) hC dX12_loadAt_40 rfl ?_
      obtain ⟨r21, e22, h⟩ := hx_bind h
      refine hs_callV hC 13 [_, _, _, _] _ dX12_loadAt_41 q2060 q2061 q2062 q326 q2063 np_X12 rfl OB_13 pd_X12_load (Nat.le_of_ble_eq_true rfl) hd1 (okX12_load l E A (d - 1)  (by omega)  e22 am19) (hc_rb rfl) rfl (fun am23 ha24 => ?_)
      obtain rfl := Option.some.inj h
      exact hr_sub _ rfl (J5 am23)
    · rw [if_neg c16] at h
      refine hr_aload_n hC dX12_loadAt_14 rfl ?_
      refine hr_iconst (v := 2) hC dX12_loadAt_15 rfl ?_
      refine hr_iload_n hC dX12_loadAt_16 rfl ?_
      refine hr_iload_n hC dX12_loadAt_17 rfl ?_
      refine hr_iload_n hC dX12_loadAt_18 rfl ?_
      obtain ⟨r25, e26, h⟩ := hx_bind h
      refine hs_callV hC 13 [_, _, _, _] _ dX12_loadAt_19 q2060 q2061 q2062 q326 q2063 np_X12 rfl OB_13 pd_X12_load (Nat.le_of_ble_eq_true rfl) hd1 (okX12_load l E A (d - 1)  (by omega)  e26 am) (hc_rb rfl) rfl (fun am27 ha28 => ?_)
      refine hr_goto hC 44 dX12_loadAt_22 (by decide) ?_
      obtain rfl := Option.some.inj h
      exact hr_sub _ rfl (J5 am27)
/-- HomeCompiler$Homes.lengthOf(I)I -/
def fm_X15_lengthOf  (x1 : Int32) (σ : hc_St) : Option Int32 := hk (inb x1 (gL σ 16 4)) <| some ((gC σ 16 4 x1))
set_option maxRecDepth 20000 in
set_option maxHeartbeats 4000000 in
theorem okX15_lengthOf (l : Launch) (E : hc_E) (A : Nat → Prop) (d : Nat)  (hD : 1 ≤ d) {x1 : Int32} {σ : hc_St} {r : Int32} (h : fm_X15_lengthOf  x1 σ = some r) (am : Nat → Nat → Nat) : hc_M l hc_V0 yX15_lengthOf (ws_ yX15_lengthOf cX15_lengthOf 2 (some .int)) d E A [.ref (E.2.1 16), .int x1] am [] σ (.inl (some (.int r))) σ := by
  have hd1 : 1 ≤ d := by omega
  refine hc_enter2 (own := RX15) [(0, .ref (E.2.1 16)), (1, .int x1)] pl_X15 rfl hc_V0_st hc_G0_nd rfl (Nat.le_of_ble_eq_true rfl) (fun X hC hem => ?_)
  unfold fm_X15_lengthOf at h
  refine hr_aload_n hC dX15_lengthOf_0 rfl ?_
  refine hr_gA hC F16_4 rfl dX15_lengthOf_1 q771 ?_
  refine hr_iload_n hC dX15_lengthOf_4 rfl ?_
  obtain ⟨c1, h⟩ := hk_ok h
  refine hs_iald hC A16_4 c1 dX15_lengthOf_5 ?_
  obtain rfl := Option.some.inj h
  exact hr_iret hC dX15_lengthOf_6
def lp_X13_begin_75 (n : Nat) : Nat → Int32 → Int32 → Int32 → Int32 → hc_St → Option (hc_St)
  | 0, _, _, _, _, _ => none
  | m + 1, y1, y2, y3, y4, σ => Option.bind (fm_X15_used  σ) fun r25 => if r25 ≤ y4 then (some (σ)) else (Option.bind (fm_X15_register y4 σ) fun r31 => Option.bind (fm_X12_storeAt r31 5 ((((y3 - 8)) - ((4 * y4)))) 7 σ) fun r35 => lp_X13_begin_75 n m y1 y2 y3 ((y4 + 1)) r35)
def lp_X13_begin_163 (n : Nat) : Nat → Int32 → Int32 → Int32 → hc_St → Option (hc_St)
  | 0, _, _, _, _ => none
  | m + 1, y1, y2, y4, σ => Option.bind (fm_X11_count  σ) fun r71 => if r71 ≤ y4 then (some (σ)) else (Option.bind (fm_X11_owner y4 σ) fun r77 => Option.bind (fm_X6_extra y1 σ) fun r81 => Option.bind (α := hc_St) (if r77 = r81 then (Option.bind (fm_X15_of y4 σ) fun r91 => if r91 = (-1) then (some (σ)) else (Option.bind (fm_X15_of y4 σ) fun r97 => Option.bind (fm_X12_move r97 0 σ) fun r101 => some (r101))) else (some (σ))) fun r87 => lp_X13_begin_163 n m y1 y2 ((y4 + 1)) r87)
def lp_X13_begin_241 (n : Nat) : Nat → Int32 → Int32 → hc_St → Option (hc_St)
  | 0, _, _, _ => none
  | m + 1, y2, y4, σ => Option.bind (fm_X6_kind y4 σ) fun r115 => if r115 = 5 then (Option.bind (fm_X6_number y4 σ) fun r121 => Option.bind (fm_X15_of r121 σ) fun r125 => Option.bind (α := hc_St) (if r125 = (-1) then (some (σ)) else (Option.bind (fm_X11_size r121 σ) fun r135 => hl (α := Int32) ((if r135 = (-1) then 1 else 0)) fun v141 => Option.bind (fm_X15_of r121 σ) fun r142 => Option.bind (fm_X15_place_2 r121 σ) fun r146 => hl (α := Int32) ((if v141 = 0 then 0 else 4)) fun v152 => Option.bind (fm_X12_loadAt r142 8 ((((-r146)) + v152)) 7 σ) fun r153 => if v141 = 0 then (some (r153)) else (Option.bind (fm_X15_lengthOf r121 r153) fun r159 => Option.bind (fm_X15_place_2 r121 r153) fun r163 => Option.bind (fm_X12_loadAt r159 8 ((-r163)) 7 r153) fun r167 => some (r167)))) fun r131 => Option.bind (fm_X6_next y4 r131) fun r178 => lp_X13_begin_241 n m y2 r178 r131) else (some (σ))
/-- HomeCompiler$Generator.begin(I)I -/
def fm_X13_begin (n : Nat) (x1 : Int32) (σ : hc_St) : Option (Int32 × hc_St) := Option.bind (fm_X12_move 5 2 σ) fun r1 => Option.bind (fm_X12_hole 6 r1) fun r5 => Option.bind (fm_X12_both 0 0 2 2 6 r5.2) fun r9 => Option.bind (fm_X15_parameterWords  r9) fun r13 => Option.bind (fm_X12_storeAt 1 5 ((((-4)) * ((r13 + 1)))) 7 r9) fun r17 => Option.bind (fm_X12_storeAt 8 5 ((((((-4)) * ((r13 + 1)))) - 4)) 7 r17) fun r21 => Option.bind (lp_X13_begin_75 n n x1 r5.1 ((((-4)) * ((r13 + 1)))) 0 r21) fun r39 => Option.bind (fm_X12_move 8 5 r39) fun r44 => Option.bind (fm_X15_localWords  r44) fun r48 => Option.bind (α := hc_St) (if r48 ≤ 0 then (some (r44)) else (Option.bind (fm_X15_words  r44) fun r58 => Option.bind (fm_X15_localWords  r44) fun r62 => Option.bind (fm_X13_clear n 8 ((((-4)) * r58)) r62 r44) fun r66 => some (r66))) fun r54 => Option.bind (lp_X13_begin_163 n n x1 r5.1 0 r54) fun r106 => Option.bind (fm_X6_first x1 r106) fun r111 => Option.bind (lp_X13_begin_241 n n r5.1 r111 r106) fun r182 => some (r5.1, r182)
set_option maxRecDepth 20000 in
set_option maxHeartbeats 4000000 in
theorem ll_X13_begin_75 {l : Launch} {E : hc_E} {A : Nat → Prop} {am : Nat → Nat → Nat} {d : Nat} {X : hc_X} (n : Nat) (hD : 12 ≤ d) (hem : X.2.2.2.2.2.2.2.2.2.1.exceptionTable.isEmpty = true) {oc : hc_Oc} {σe : hc_St} (hC : hc_C hc_V0 E cX13_begin 7 RX13 (some .int) d oc σe (l, A, am, [13]) X) : ∀ (m : Nat) (σ : hc_St) (y1 : Int32) (y2 : Int32) (y3 : Int32) (y4 : Int32) (rl : hc_St), lp_X13_begin_75 n m y1 y2 y3 y4 σ = some rl → (∀ am1, hc_At hc_V0 E 7 X 117 [(0, .ref (E.2.1 14)), (1, .int y1), (2, .int y2)] [] rl am1 []) → ∀ am1, hc_At hc_V0 E 7 X 75 [(0, .ref (E.2.1 14)), (1, .int y1), (2, .int y2), (3, .int y3), (4, .int y4)] [] σ am1 [] := by
  have hd1 : 1 ≤ d := by omega
  have hd8 : 9 ≤ d := by omega
  intro m
  induction m with
  | zero =>
    intro σ y1 y2 y3 y4 rl h
    cases h
  | succ m ih =>
    intro σ y1 y2 y3 y4 rl h JX am1
    rw [lp_X13_begin_75] at h
    refine hr_iload hC dX13_begin_75 rfl ?_
    refine hr_aload_n hC dX13_begin_77 rfl ?_
    refine hr_gO 16 hC F14_7 rfl dX13_begin_78 q802 ?_
    obtain ⟨r25, e26, h⟩ := hx_bind h
    refine hs_callV0 hC 16 [] _ dX13_begin_81 q2026 q2027 q2028 q329 q2029 np_X15 rfl OB_16 pd_X15_used (Nat.le_of_ble_eq_true rfl) hd1 (okX15_used l E A (d - 1)  (by omega)  e26 am1) rfl ?_
    refine hr_icmp_ge (x := _) hC 117 dX13_begin_84 (by decide) (fun c30 => ?_) (fun c30 => ?_)
    · rw [if_pos c30] at h
      obtain rfl := Option.some.inj h
      exact hr_sub _ rfl (JX am1)
    · rw [if_neg c30] at h
      refine hr_aload_n hC dX13_begin_87 rfl ?_
      refine hr_gO 13 hC F14_5 rfl dX13_begin_88 q800 ?_
      refine hr_iload hC dX13_begin_91 rfl ?_
      obtain ⟨r31, e32, h⟩ := hx_bind h
      refine hs_callS0 hC [_] _ dX13_begin_93 q2030 q1963 q329 q1964 np_X15 rfl pd_X15_register (Nat.le_of_ble_eq_true rfl) hd1 (okX15_register l E A (d - 1)  (by omega)  e32 am1) rfl ?_
      refine hr_iconst (v := 5) hC dX13_begin_96 rfl ?_
      refine hr_iload_n hC dX13_begin_97 rfl ?_
      refine hr_bipush (v := 8) hC dX13_begin_98 rfl ?_
      refine hr_isub hC dX13_begin_100 ?_
      refine hr_iconst (v := 4) hC dX13_begin_101 rfl ?_
      refine hr_iload hC dX13_begin_102 rfl ?_
      refine hr_imul hC dX13_begin_104 ?_
      refine hr_isub hC dX13_begin_105 ?_
      refine hr_bipush (v := 7) hC dX13_begin_106 rfl ?_
      obtain ⟨r35, e36, h⟩ := hx_bind h
      refine hs_callV hC 13 [_, _, _, _] _ dX13_begin_108 q2020 q2021 q2022 q326 q2023 np_X12 rfl OB_13 pd_X12_storeAt (Nat.le_of_ble_eq_true rfl) hd1 (okX12_storeAt l E A (d - 1)  (by omega)  e36 am1) (hc_rb rfl) rfl (fun am37 ha38 => ?_)
      refine hr_iinc (v := y4 + 1) hC dX13_begin_111 rfl rfl (by decide) ?_
      refine hr_goto hC 75 dX13_begin_114 (by decide) ?_
      exact hr_sub _ rfl (ih _ _ _ _ _ _ h JX am37)
set_option maxRecDepth 20000 in
set_option maxHeartbeats 4000000 in
theorem ll_X13_begin_163 {l : Launch} {E : hc_E} {A : Nat → Prop} {am : Nat → Nat → Nat} {d : Nat} {X : hc_X} (n : Nat) (hD : 12 ≤ d) (hem : X.2.2.2.2.2.2.2.2.2.1.exceptionTable.isEmpty = true) {oc : hc_Oc} {σe : hc_St} (hC : hc_C hc_V0 E cX13_begin 7 RX13 (some .int) d oc σe (l, A, am, [13]) X) : ∀ (m : Nat) (σ : hc_St) (y1 : Int32) (y2 : Int32) (y4 : Int32) (rl : hc_St), lp_X13_begin_163 n m y1 y2 y4 σ = some rl → (∀ am1, hc_At hc_V0 E 7 X 231 [(0, .ref (E.2.1 14)), (1, .int y1), (2, .int y2)] [] rl am1 []) → ∀ am1, hc_At hc_V0 E 7 X 163 [(0, .ref (E.2.1 14)), (1, .int y1), (2, .int y2), (4, .int y4)] [] σ am1 [] := by
  have hd1 : 1 ≤ d := by omega
  have hd8 : 9 ≤ d := by omega
  intro m
  induction m with
  | zero =>
    intro σ y1 y2 y4 rl h
    cases h
  | succ m ih =>
    intro σ y1 y2 y4 rl h JX am1
    rw [lp_X13_begin_163] at h
    refine hr_iload hC dX13_begin_163 rfl ?_
    refine hr_aload_n hC dX13_begin_165 rfl ?_
    refine hr_gO 11 hC F14_2 rfl dX13_begin_166 q797 ?_
    obtain ⟨r71, e72, h⟩ := hx_bind h
    refine hs_callV0 hC 11 [] _ dX13_begin_169 q1863 q1864 q1865 q325 q1866 np_X11 rfl OB_11 pd_X11_count (Nat.le_of_ble_eq_true rfl) hd1 (okX11_count l E A (d - 1)  (by omega)  e72 am1) rfl ?_
    refine hr_icmp_ge (x := _) hC 231 dX13_begin_172 (by decide) (fun c76 => ?_) (fun c76 => ?_)
    · rw [if_pos c76] at h
      obtain rfl := Option.some.inj h
      exact hr_sub _ rfl (JX am1)
    · rw [if_neg c76] at h
      refine hr_aload_n hC dX13_begin_175 rfl ?_
      refine hr_gO 11 hC F14_2 rfl dX13_begin_176 q797 ?_
      refine hr_iload hC dX13_begin_179 rfl ?_
      obtain ⟨r77, e78, h⟩ := hx_bind h
      refine hs_callV0 hC 11 [_] _ dX13_begin_181 q1867 q1868 q1869 q325 q1870 np_X11 rfl OB_11 pd_X11_owner (Nat.le_of_ble_eq_true rfl) hd1 (okX11_owner l E A (d - 1)  (by omega)  e78 am1) rfl ?_
      refine hr_aload_n hC dX13_begin_184 rfl ?_
      refine hr_gO 6 hC F14_0 rfl dX13_begin_185 q795 ?_
      refine hr_iload_n hC dX13_begin_188 rfl ?_
      obtain ⟨r81, e82, h⟩ := hx_bind h
      refine hs_callV0 hC 6 [_] _ dX13_begin_189 q2043 q1687 q1688 q320 q1689 np_X6 rfl OB_6 pd_X6_extra (Nat.le_of_ble_eq_true rfl) hd1 (okX6_extra l E A (d - 1)  (by omega)  e82 am1) rfl ?_
      obtain ⟨r87, e88, h⟩ := hx_bind h
      have J89 : ∀ am105, hc_At hc_V0 E 7 X 225 [(0, .ref (E.2.1 14)), (1, .int y1), (2, .int y2), (4, .int y4)] [] r87 am105 [] := by
        intro am105
        refine hr_iinc (v := y4 + 1) hC dX13_begin_225 rfl rfl (by decide) ?_
        refine hr_goto hC 163 dX13_begin_228 (by decide) ?_
        exact hr_sub _ rfl (ih _ _ _ _ _ h JX am105)
      clear h
      have h := e88
      refine hr_icmp_ne (x := _) hC 225 dX13_begin_192 (by decide) (fun c86 => ?_) (fun c86 => ?_)
      · rw [if_neg c86] at h
        obtain rfl := Option.some.inj h
        exact hr_sub _ rfl (J89 am1)
      · rw [if_pos c86] at h
        refine hr_aload_n hC dX13_begin_195 rfl ?_
        refine hr_gO 16 hC F14_7 rfl dX13_begin_196 q802 ?_
        refine hr_iload hC dX13_begin_199 rfl ?_
        obtain ⟨r91, e92, h⟩ := hx_bind h
        refine hs_callV0 hC 16 [_] _ dX13_begin_201 q2044 q2045 q2046 q329 q2047 np_X15 rfl OB_16 pd_X15_of (Nat.le_of_ble_eq_true rfl) hd1 (okX15_of l E A (d - 1)  (by omega)  e92 am1) rfl ?_
        refine hr_iconst (v := (-1)) hC dX13_begin_204 rfl ?_
        refine hr_icmp_eq (x := _) hC 225 dX13_begin_205 (by decide) (fun c96 => ?_) (fun c96 => ?_)
        · rw [if_pos c96] at h
          obtain rfl := Option.some.inj h
          exact hr_sub _ rfl (J89 am1)
        · rw [if_neg c96] at h
          refine hr_aload_n hC dX13_begin_208 rfl ?_
          refine hr_gO 13 hC F14_5 rfl dX13_begin_209 q800 ?_
          refine hr_aload_n hC dX13_begin_212 rfl ?_
          refine hr_gO 16 hC F14_7 rfl dX13_begin_213 q802 ?_
          refine hr_iload hC dX13_begin_216 rfl ?_
          obtain ⟨r97, e98, h⟩ := hx_bind h
          refine hs_callV0 hC 16 [_] _ dX13_begin_218 q2044 q2045 q2046 q329 q2047 np_X15 rfl OB_16 pd_X15_of (Nat.le_of_ble_eq_true rfl) hd1 (okX15_of l E A (d - 1)  (by omega)  e98 am1) rfl ?_
          refine hr_iconst (v := 0) hC dX13_begin_221 rfl ?_
          obtain ⟨r101, e102, h⟩ := hx_bind h
          refine hs_callV hC 13 [_, _] _ dX13_begin_222 q2007 q2008 q2009 q326 q2010 np_X12 rfl OB_13 pd_X12_move (Nat.le_of_ble_eq_true rfl) hd1 (okX12_move l E A (d - 1)  (by omega)  e102 am1) (hc_rb rfl) rfl (fun am103 ha104 => ?_)
          obtain rfl := Option.some.inj h
          exact hr_sub _ rfl (J89 am103)
set_option maxRecDepth 20000 in
set_option maxHeartbeats 4000000 in
theorem ll_X13_begin_241 {l : Launch} {E : hc_E} {A : Nat → Prop} {am : Nat → Nat → Nat} {d : Nat} {X : hc_X} (n : Nat) (hD : 12 ≤ d) (hem : X.2.2.2.2.2.2.2.2.2.1.exceptionTable.isEmpty = true) {oc : hc_Oc} {σe : hc_St} (hC : hc_C hc_V0 E cX13_begin 7 RX13 (some .int) d oc σe (l, A, am, [13]) X) : ∀ (m : Nat) (σ : hc_St) (y2 : Int32) (y4 : Int32) (rl : hc_St), lp_X13_begin_241 n m y2 y4 σ = some rl → (∀ am1, hc_At hc_V0 E 7 X 388 [(2, .int y2)] [] rl am1 []) → ∀ am1, hc_At hc_V0 E 7 X 241 [(0, .ref (E.2.1 14)), (2, .int y2), (4, .int y4)] [] σ am1 [] := by
  have hd1 : 1 ≤ d := by omega
  have hd8 : 9 ≤ d := by omega
  intro m
  induction m with
  | zero =>
    intro σ y2 y4 rl h
    cases h
  | succ m ih =>
    intro σ y2 y4 rl h JX am1
    rw [lp_X13_begin_241] at h
    refine hr_aload_n hC dX13_begin_241 rfl ?_
    refine hr_gO 6 hC F14_0 rfl dX13_begin_242 q795 ?_
    refine hr_iload hC dX13_begin_245 rfl ?_
    obtain ⟨r115, e116, h⟩ := hx_bind h
    refine hs_callV0 hC 6 [_] _ dX13_begin_247 q2049 q1369 q1370 q320 q1371 np_X6 rfl OB_6 pd_X6_kind (Nat.le_of_ble_eq_true rfl) hd1 (okX6_kind l E A (d - 1)  (by omega)  e116 am1) rfl ?_
    refine hr_iconst (v := 5) hC dX13_begin_250 rfl ?_
    refine hr_icmp_ne (x := _) hC 388 dX13_begin_251 (by decide) (fun c120 => ?_) (fun c120 => ?_)
    · rw [if_neg c120] at h
      obtain rfl := Option.some.inj h
      exact hr_sub _ rfl (JX am1)
    · rw [if_pos c120] at h
      refine hr_aload_n hC dX13_begin_254 rfl ?_
      refine hr_gO 6 hC F14_0 rfl dX13_begin_255 q795 ?_
      refine hr_iload hC dX13_begin_258 rfl ?_
      obtain ⟨r121, e122, h⟩ := hx_bind h
      refine hs_callV0 hC 6 [_] _ dX13_begin_260 q2050 q1970 q1971 q320 q1972 np_X6 rfl OB_6 pd_X6_number (Nat.le_of_ble_eq_true rfl) hd1 (okX6_number l E A (d - 1)  (by omega)  e122 am1) rfl ?_
      refine hr_istore hC dX13_begin_263 (by decide) ?_
      refine hr_aload_n hC dX13_begin_265 rfl ?_
      refine hr_gO 16 hC F14_7 rfl dX13_begin_266 q802 ?_
      refine hr_iload hC dX13_begin_269 rfl ?_
      obtain ⟨r125, e126, h⟩ := hx_bind h
      refine hs_callV0 hC 16 [_] _ dX13_begin_271 q2044 q2045 q2046 q329 q2047 np_X15 rfl OB_16 pd_X15_of (Nat.le_of_ble_eq_true rfl) hd1 (okX15_of l E A (d - 1)  (by omega)  e126 am1) rfl ?_
      refine hr_iconst (v := (-1)) hC dX13_begin_274 rfl ?_
      obtain ⟨r131, e132, h⟩ := hx_bind h
      have J133 : ∀ am177, hc_At hc_V0 E 7 X 374 [(0, .ref (E.2.1 14)), (2, .int y2), (4, .int y4)] [] r131 am177 [] := by
        intro am177
        refine hr_aload_n hC dX13_begin_374 rfl ?_
        refine hr_gO 6 hC F14_0 rfl dX13_begin_375 q795 ?_
        refine hr_iload hC dX13_begin_378 rfl ?_
        obtain ⟨r178, e179, h⟩ := hx_bind h
        refine hs_callV0 hC 6 [_] _ dX13_begin_380 q2068 q1603 q1604 q320 q1605 np_X6 rfl OB_6 pd_X6_next (Nat.le_of_ble_eq_true rfl) hd1 (okX6_next l E A (d - 1)  (by omega)  e179 am177) rfl ?_
        refine hr_istore hC dX13_begin_383 (by decide) ?_
        refine hr_goto hC 241 dX13_begin_385 (by decide) ?_
        exact hr_sub _ rfl (ih _ _ _ _ h JX am177)
      clear h
      have h := e132
      refine hr_icmp_eq (x := _) hC 374 dX13_begin_275 (by decide) (fun c130 => ?_) (fun c130 => ?_)
      · rw [if_pos c130] at h
        obtain rfl := Option.some.inj h
        exact hr_sub _ rfl (J133 am1)
      · rw [if_neg c130] at h
        refine hr_aload_n hC dX13_begin_278 rfl ?_
        refine hr_gO 11 hC F14_2 rfl dX13_begin_279 q797 ?_
        refine hr_iload hC dX13_begin_282 rfl ?_
        obtain ⟨r135, e136, h⟩ := hx_bind h
        refine hs_callV0 hC 11 [_] _ dX13_begin_284 q2051 q1655 q1656 q325 q1657 np_X11 rfl OB_11 pd_X11_size (Nat.le_of_ble_eq_true rfl) hd1 (okX11_size l E A (d - 1)  (by omega)  e136 am1) rfl ?_
        refine hr_iconst (v := (-1)) hC dX13_begin_287 rfl ?_
        obtain ⟨v141, hv141, h⟩ := hl_ok h
        have J174 : ∀ w175 : Int32, (if r135 = (-1) then 1 else 0) = w175 → hc_At hc_V0 E 7 X 296 [(0, .ref (E.2.1 14)), (2, .int y2), (4, .int y4), (5, .int r121)] [.int w175] σ am1 [] := by
          intro w175 hw175
          obtain rfl := hv141.trans hw175
          refine hr_istore hC dX13_begin_296 (by decide) ?_
          refine hr_aload_n hC dX13_begin_298 rfl ?_
          refine hr_gO 13 hC F14_5 rfl dX13_begin_299 q800 ?_
          refine hr_aload_n hC dX13_begin_302 rfl ?_
          refine hr_gO 16 hC F14_7 rfl dX13_begin_303 q802 ?_
          refine hr_iload hC dX13_begin_306 rfl ?_
          obtain ⟨r142, e143, h⟩ := hx_bind h
          refine hs_callV0 hC 16 [_] _ dX13_begin_308 q2044 q2045 q2046 q329 q2047 np_X15 rfl OB_16 pd_X15_of (Nat.le_of_ble_eq_true rfl) hd1 (okX15_of l E A (d - 1)  (by omega)  e143 am1) rfl ?_
          refine hr_bipush (v := 8) hC dX13_begin_311 rfl ?_
          refine hr_aload_n hC dX13_begin_313 rfl ?_
          refine hr_gO 16 hC F14_7 rfl dX13_begin_314 q802 ?_
          refine hr_iload hC dX13_begin_317 rfl ?_
          obtain ⟨r146, e147, h⟩ := hx_bind h
          refine hs_callV0 hC 16 [_] _ dX13_begin_319 q2052 q2053 q2054 q329 q2055 np_X15 rfl OB_16 pd_X15_place_2 (Nat.le_of_ble_eq_true rfl) hd1 (okX15_place_2 l E A (d - 1)  (by omega)  e147 am1) rfl ?_
          refine hr_ineg hC dX13_begin_322 ?_
          refine hr_iload hC dX13_begin_323 rfl ?_
          obtain ⟨v152, hv152, h⟩ := hl_ok h
          have J171 : ∀ w172 : Int32, (if v141 = 0 then 0 else 4) = w172 → hc_At hc_V0 E 7 X 333 [(0, .ref (E.2.1 14)), (2, .int y2), (4, .int y4), (5, .int r121), (6, .int v141)] [.int w172, .int (-r146), .int 8, .int r142, .ref (E.2.1 13)] σ am1 [] := by
            intro w172 hw172
            obtain rfl := hv152.trans hw172
            refine hr_iadd hC dX13_begin_333 ?_
            refine hr_bipush (v := 7) hC dX13_begin_334 rfl ?_
            obtain ⟨r153, e154, h⟩ := hx_bind h
            refine hs_callV hC 13 [_, _, _, _] _ dX13_begin_336 q2056 q2057 q2058 q326 q2059 np_X12 rfl OB_13 pd_X12_loadAt (Nat.le_of_ble_eq_true rfl) hd1 (okX12_loadAt l E A (d - 1)  (by omega)  e154 am1) (hc_rb rfl) rfl (fun am155 ha156 => ?_)
            refine hr_iload hC dX13_begin_339 rfl ?_
            refine hr_if_eq (x := _) hC 374 dX13_begin_341 (by decide) (fun c158 => ?_) (fun c158 => ?_)
            · rw [if_pos c158] at h
              obtain rfl := Option.some.inj h
              exact hr_sub _ rfl (J133 am155)
            · rw [if_neg c158] at h
              refine hr_aload_n hC dX13_begin_344 rfl ?_
              refine hr_gO 13 hC F14_5 rfl dX13_begin_345 q800 ?_
              refine hr_aload_n hC dX13_begin_348 rfl ?_
              refine hr_gO 16 hC F14_7 rfl dX13_begin_349 q802 ?_
              refine hr_iload hC dX13_begin_352 rfl ?_
              obtain ⟨r159, e160, h⟩ := hx_bind h
              refine hs_callV0 hC 16 [_] _ dX13_begin_354 q2064 q2065 q2066 q329 q2067 np_X15 rfl OB_16 pd_X15_lengthOf (Nat.le_of_ble_eq_true rfl) hd1 (okX15_lengthOf l E A (d - 1)  (by omega)  e160 am155) rfl ?_
              refine hr_bipush (v := 8) hC dX13_begin_357 rfl ?_
              refine hr_aload_n hC dX13_begin_359 rfl ?_
              refine hr_gO 16 hC F14_7 rfl dX13_begin_360 q802 ?_
              refine hr_iload hC dX13_begin_363 rfl ?_
              obtain ⟨r163, e164, h⟩ := hx_bind h
              refine hs_callV0 hC 16 [_] _ dX13_begin_365 q2052 q2053 q2054 q329 q2055 np_X15 rfl OB_16 pd_X15_place_2 (Nat.le_of_ble_eq_true rfl) hd1 (okX15_place_2 l E A (d - 1)  (by omega)  e164 am155) rfl ?_
              refine hr_ineg hC dX13_begin_368 ?_
              refine hr_bipush (v := 7) hC dX13_begin_369 rfl ?_
              obtain ⟨r167, e168, h⟩ := hx_bind h
              refine hs_callV hC 13 [_, _, _, _] _ dX13_begin_371 q2056 q2057 q2058 q326 q2059 np_X12 rfl OB_13 pd_X12_loadAt (Nat.le_of_ble_eq_true rfl) hd1 (okX12_loadAt l E A (d - 1)  (by omega)  e168 am155) (hc_rb rfl) rfl (fun am169 ha170 => ?_)
              obtain rfl := Option.some.inj h
              exact hr_sub _ rfl (J133 am169)
          refine hr_if_eq (x := _) hC 332 dX13_begin_325 (by decide) (fun c173 => ?_) (fun c173 => ?_)
          · refine hr_iconst (v := 0) hC dX13_begin_332 rfl ?_
            exact hr_sub _ rfl (J171 _ (by first | (rw [if_pos c173]; done) | (simp only [if_pos c173]; done) | rfl))
          · refine hr_iconst (v := 4) hC dX13_begin_328 rfl ?_
            refine hr_goto hC 333 dX13_begin_329 (by decide) ?_
            exact hr_sub _ rfl (J171 _ (by first | (rw [if_neg c173]; done) | (simp only [if_neg c173]; done) | rfl))
        refine hr_icmp_ne (x := _) hC 295 dX13_begin_288 (by decide) (fun c176 => ?_) (fun c176 => ?_)
        · refine hr_iconst (v := 0) hC dX13_begin_295 rfl ?_
          exact hr_sub _ rfl (J174 _ (by first | (rw [if_neg c176]; done) | (simp only [if_neg c176]; done) | rfl))
        · refine hr_iconst (v := 1) hC dX13_begin_291 rfl ?_
          refine hr_goto hC 296 dX13_begin_292 (by decide) ?_
          exact hr_sub _ rfl (J174 _ (by first | (rw [if_pos c176]; done) | (simp only [if_pos c176]; done) | rfl))
set_option maxRecDepth 20000 in
set_option maxHeartbeats 4000000 in
theorem okX13_begin (l : Launch) (E : hc_E) (A : Nat → Prop) (d : Nat) (n : Nat) (hD : 12 ≤ d) {x1 : Int32} {σ : hc_St} {r : (Int32 × hc_St)} (h : fm_X13_begin n x1 σ = some r) (am : Nat → Nat → Nat) : hc_M l hc_V0 yX13_begin (ws_ yX13_begin cX13_begin 7 (some .int)) d E A [.ref (E.2.1 14), .int x1] am [13] σ (.inl (some (.int r.1))) r.2 := by
  have hd1 : 1 ≤ d := by omega
  have hd8 : 9 ≤ d := by omega
  refine hc_enter2 (own := RX13) [(0, .ref (E.2.1 14)), (1, .int x1)] pl_X13 rfl hc_V0_st hc_G0_nd rfl (Nat.le_of_ble_eq_true rfl) (fun X hC hem => ?_)
  unfold fm_X13_begin at h
  refine hr_aload_n hC dX13_begin_0 rfl ?_
  refine hr_gO 13 hC F14_5 rfl dX13_begin_1 q800 ?_
  refine hr_iconst (v := 5) hC dX13_begin_4 rfl ?_
  refine hr_iconst (v := 2) hC dX13_begin_5 rfl ?_
  obtain ⟨r1, e2, h⟩ := hx_bind h
  refine hs_callV hC 13 [_, _] _ dX13_begin_6 q2007 q2008 q2009 q326 q2010 np_X12 rfl OB_13 pd_X12_move (Nat.le_of_ble_eq_true rfl) hd1 (okX12_move l E A (d - 1)  (by omega)  e2 am) (hc_rb rfl) rfl (fun am3 ha4 => ?_)
  refine hr_aload_n hC dX13_begin_9 rfl ?_
  refine hr_gO 13 hC F14_5 rfl dX13_begin_10 q800 ?_
  refine hr_bipush (v := 6) hC dX13_begin_13 rfl ?_
  obtain ⟨r5, e6, h⟩ := hx_bind h
  refine hs_callV hC 13 [_] _ dX13_begin_15 q2011 q2012 q2013 q326 q2014 np_X12 rfl OB_13 pd_X12_hole (Nat.le_of_ble_eq_true rfl) hd1 (okX12_hole l E A (d - 1)  (by omega)  e6 am3) (hc_rb rfl) rfl (fun am7 ha8 => ?_)
  refine hr_istore_n hC dX13_begin_18 (by decide) ?_
  refine hr_aload_n hC dX13_begin_19 rfl ?_
  refine hr_gO 13 hC F14_5 rfl dX13_begin_20 q800 ?_
  refine hr_iconst (v := 0) hC dX13_begin_23 rfl ?_
  refine hr_iconst (v := 0) hC dX13_begin_24 rfl ?_
  refine hr_iconst (v := 2) hC dX13_begin_25 rfl ?_
  refine hr_iconst (v := 2) hC dX13_begin_26 rfl ?_
  refine hr_bipush (v := 6) hC dX13_begin_27 rfl ?_
  obtain ⟨r9, e10, h⟩ := hx_bind h
  refine hs_callV hC 13 [_, _, _, _, _] _ dX13_begin_29 q2015 q2000 q2001 q326 q2002 np_X12 rfl OB_13 pd_X12_both (Nat.le_of_ble_eq_true rfl) hd1 (okX12_both l E A (d - 1)  (by omega)  e10 am7) (hc_rb rfl) rfl (fun am11 ha12 => ?_)
  refine hr_bipush (v := (-4)) hC dX13_begin_32 rfl ?_
  refine hr_aload_n hC dX13_begin_34 rfl ?_
  refine hr_gO 16 hC F14_7 rfl dX13_begin_35 q802 ?_
  obtain ⟨r13, e14, h⟩ := hx_bind h
  refine hs_callV0 hC 16 [] _ dX13_begin_38 q2016 q2017 q2018 q329 q2019 np_X15 rfl OB_16 pd_X15_parameterWords (Nat.le_of_ble_eq_true rfl) hd1 (okX15_parameterWords l E A (d - 1)  (by omega)  e14 am11) rfl ?_
  refine hr_iconst (v := 1) hC dX13_begin_41 rfl ?_
  refine hr_iadd hC dX13_begin_42 ?_
  refine hr_imul hC dX13_begin_43 ?_
  refine hr_istore_n hC dX13_begin_44 (by decide) ?_
  refine hr_aload_n hC dX13_begin_45 rfl ?_
  refine hr_gO 13 hC F14_5 rfl dX13_begin_46 q800 ?_
  refine hr_iconst (v := 1) hC dX13_begin_49 rfl ?_
  refine hr_iconst (v := 5) hC dX13_begin_50 rfl ?_
  refine hr_iload_n hC dX13_begin_51 rfl ?_
  refine hr_bipush (v := 7) hC dX13_begin_52 rfl ?_
  obtain ⟨r17, e18, h⟩ := hx_bind h
  refine hs_callV hC 13 [_, _, _, _] _ dX13_begin_54 q2020 q2021 q2022 q326 q2023 np_X12 rfl OB_13 pd_X12_storeAt (Nat.le_of_ble_eq_true rfl) hd1 (okX12_storeAt l E A (d - 1)  (by omega)  e18 am11) (hc_rb rfl) rfl (fun am19 ha20 => ?_)
  refine hr_aload_n hC dX13_begin_57 rfl ?_
  refine hr_gO 13 hC F14_5 rfl dX13_begin_58 q800 ?_
  refine hr_bipush (v := 8) hC dX13_begin_61 rfl ?_
  refine hr_iconst (v := 5) hC dX13_begin_63 rfl ?_
  refine hr_iload_n hC dX13_begin_64 rfl ?_
  refine hr_iconst (v := 4) hC dX13_begin_65 rfl ?_
  refine hr_isub hC dX13_begin_66 ?_
  refine hr_bipush (v := 7) hC dX13_begin_67 rfl ?_
  obtain ⟨r21, e22, h⟩ := hx_bind h
  refine hs_callV hC 13 [_, _, _, _] _ dX13_begin_69 q2020 q2021 q2022 q326 q2023 np_X12 rfl OB_13 pd_X12_storeAt (Nat.le_of_ble_eq_true rfl) hd1 (okX12_storeAt l E A (d - 1)  (by omega)  e22 am19) (hc_rb rfl) rfl (fun am23 ha24 => ?_)
  refine hr_iconst (v := 0) hC dX13_begin_72 rfl ?_
  refine hr_istore hC dX13_begin_73 (by decide) ?_
  obtain ⟨r39, e40, h⟩ := hx_bind h
  refine hr_sub _ rfl (ll_X13_begin_75 n hD hem hC n _ _ _ _ _ _ e40 (fun am43 => ?_) am23)
  refine hr_aload_n hC dX13_begin_117 rfl ?_
  refine hr_gO 13 hC F14_5 rfl dX13_begin_118 q800 ?_
  refine hr_bipush (v := 8) hC dX13_begin_121 rfl ?_
  refine hr_iconst (v := 5) hC dX13_begin_123 rfl ?_
  obtain ⟨r44, e45, h⟩ := hx_bind h
  refine hs_callV hC 13 [_, _] _ dX13_begin_124 q2007 q2008 q2009 q326 q2010 np_X12 rfl OB_13 pd_X12_move (Nat.le_of_ble_eq_true rfl) hd1 (okX12_move l E A (d - 1)  (by omega)  e45 am43) (hc_rb rfl) rfl (fun am46 ha47 => ?_)
  refine hr_aload_n hC dX13_begin_127 rfl ?_
  refine hr_gO 16 hC F14_7 rfl dX13_begin_128 q802 ?_
  obtain ⟨r48, e49, h⟩ := hx_bind h
  refine hs_callV0 hC 16 [] _ dX13_begin_131 q2031 q2032 q2033 q329 q2034 np_X15 rfl OB_16 pd_X15_localWords (Nat.le_of_ble_eq_true rfl) hd1 (okX15_localWords l E A (d - 1)  (by omega)  e49 am46) rfl ?_
  obtain ⟨r54, e55, h⟩ := hx_bind h
  have J56 : ∀ am70, hc_At hc_V0 E 7 X 160 [(0, .ref (E.2.1 14)), (1, .int x1), (2, .int r5.1)] [] r54 am70 [] := by
    intro am70
    refine hr_iconst (v := 0) hC dX13_begin_160 rfl ?_
    refine hr_istore hC dX13_begin_161 (by decide) ?_
    obtain ⟨r106, e107, h⟩ := hx_bind h
    refine hr_sub _ rfl (ll_X13_begin_163 n hD hem hC n _ _ _ _ _ e107 (fun am110 => ?_) am70)
    refine hr_aload_n hC dX13_begin_231 rfl ?_
    refine hr_gO 6 hC F14_0 rfl dX13_begin_232 q795 ?_
    refine hr_iload_n hC dX13_begin_235 rfl ?_
    obtain ⟨r111, e112, h⟩ := hx_bind h
    refine hs_callV0 hC 6 [_] _ dX13_begin_236 q2048 q1576 q1577 q320 q1578 np_X6 rfl OB_6 pd_X6_first (Nat.le_of_ble_eq_true rfl) hd1 (okX6_first l E A (d - 1)  (by omega)  e112 am110) rfl ?_
    refine hr_istore hC dX13_begin_239 (by decide) ?_
    obtain ⟨r182, e183, h⟩ := hx_bind h
    refine hr_sub _ rfl (ll_X13_begin_241 n hD hem hC n _ _ _ _ e183 (fun am186 => ?_) am110)
    refine hr_iload_n hC dX13_begin_388 rfl ?_
    obtain rfl := Option.some.inj h
    exact hr_iret hC dX13_begin_389
  clear h
  have h := e55
  refine hr_if_le (x := _) hC 160 dX13_begin_134 (by decide) (fun c53 => ?_) (fun c53 => ?_)
  · rw [if_pos c53] at h
    obtain rfl := Option.some.inj h
    exact hr_sub _ rfl (J56 am46)
  · rw [if_neg c53] at h
    refine hr_aload_n hC dX13_begin_137 rfl ?_
    refine hr_bipush (v := 8) hC dX13_begin_138 rfl ?_
    refine hr_bipush (v := (-4)) hC dX13_begin_140 rfl ?_
    refine hr_aload_n hC dX13_begin_142 rfl ?_
    refine hr_gO 16 hC F14_7 rfl dX13_begin_143 q802 ?_
    obtain ⟨r58, e59, h⟩ := hx_bind h
    refine hs_callV0 hC 16 [] _ dX13_begin_146 q2035 q2036 q2037 q329 q2038 np_X15 rfl OB_16 pd_X15_words (Nat.le_of_ble_eq_true rfl) hd1 (okX15_words l E A (d - 1)  (by omega)  e59 am46) rfl ?_
    refine hr_imul hC dX13_begin_149 ?_
    refine hr_aload_n hC dX13_begin_150 rfl ?_
    refine hr_gO 16 hC F14_7 rfl dX13_begin_151 q802 ?_
    obtain ⟨r62, e63, h⟩ := hx_bind h
    refine hs_callV0 hC 16 [] _ dX13_begin_154 q2031 q2032 q2033 q329 q2034 np_X15 rfl OB_16 pd_X15_localWords (Nat.le_of_ble_eq_true rfl) hd1 (okX15_localWords l E A (d - 1)  (by omega)  e63 am46) rfl ?_
    obtain ⟨r66, e67, h⟩ := hx_bind h
    refine hs_callV hC 14 [_, _, _] _ dX13_begin_157 q2039 q2041 qs106 q327 q2042 np_X13 rfl OB_14 pd_X13_clear (Nat.le_of_ble_eq_true rfl) hd1 (okX13_clear l E A (d - 1) n (by omega)  e67 am46) (hc_rb rfl) rfl (fun am68 ha69 => ?_)
    obtain rfl := Option.some.inj h
    exact hr_sub _ rfl (J56 am68)
def lp_X13_array_40 (n : Nat) : Nat → Int32 → Int32 → Int32 → Int32 → Int32 → Int32 → hc_St → Option (hc_St)
  | 0, _, _, _, _, _, _, _ => none
  | m + 1, y1, y2, y3, y4, y5, y6, σ => if y5 ≤ y6 then (some (σ)) else (Option.bind (fm_X13_begins n y2 y3 y6 σ) fun r18 => Option.bind (fm_X12_set 5 r18.1 r18.2) fun r22 => Option.bind (fm_X12_storeAt 5 8 ((y4 + ((4 * y6)))) 7 r22) fun r26 => lp_X13_array_40 n m y1 y2 y3 y4 y5 ((y6 + 1)) r26)
/-- HomeCompiler$Generator.array(II)V -/
def fm_X13_array (n : Nat) (x1 : Int32) (x2 : Int32) (σ : hc_St) : Option hc_St := Option.bind (fm_X11_type x1 σ) fun r1 => hl (α := Int32) ((if r1 = 1 then 1 else 0)) fun v7 => Option.bind (fm_X15_place_2 x1 σ) fun r8 => Option.bind (fm_X13_given n x2 v7 σ) fun r12 => Option.bind (lp_X13_array_40 n n x1 x2 v7 ((-r8)) r12 0 σ) fun r30 => Option.bind (fm_X11_words x1 r30) fun r35 => Option.bind (α := hc_St) (if r35 ≤ r12 then (some (r30)) else (Option.bind (fm_X11_words x1 r30) fun r45 => Option.bind (fm_X13_clear n 8 ((((-r8)) + ((4 * r12)))) ((r45 - r12)) r30) fun r49 => some (r49))) fun r41 => some r41
set_option maxRecDepth 20000 in
set_option maxHeartbeats 4000000 in
theorem ll_X13_array_40 {l : Launch} {E : hc_E} {A : Nat → Prop} {am : Nat → Nat → Nat} {d : Nat} {X : hc_X} (n : Nat) (hD : 12 ≤ d) (hem : X.2.2.2.2.2.2.2.2.2.1.exceptionTable.isEmpty = true) {oc : hc_Oc} {σe : hc_St} (hC : hc_C hc_V0 E cX13_array 7 RX13 none d oc σe (l, A, am, [13]) X) : ∀ (m : Nat) (σ : hc_St) (y1 : Int32) (y2 : Int32) (y3 : Int32) (y4 : Int32) (y5 : Int32) (y6 : Int32) (rl : hc_St), lp_X13_array_40 n m y1 y2 y3 y4 y5 y6 σ = some rl → (∀ am1, hc_At hc_V0 E 7 X 88 [(0, .ref (E.2.1 14)), (1, .int y1), (4, .int y4), (5, .int y5)] [] rl am1 []) → ∀ am1, hc_At hc_V0 E 7 X 40 [(0, .ref (E.2.1 14)), (1, .int y1), (2, .int y2), (3, .int y3), (4, .int y4), (5, .int y5), (6, .int y6)] [] σ am1 [] := by
  have hd1 : 1 ≤ d := by omega
  have hd8 : 9 ≤ d := by omega
  intro m
  induction m with
  | zero =>
    intro σ y1 y2 y3 y4 y5 y6 rl h
    cases h
  | succ m ih =>
    intro σ y1 y2 y3 y4 y5 y6 rl h JX am1
    rw [lp_X13_array_40] at h
    refine hr_iload hC dX13_array_40 rfl ?_
    refine hr_iload hC dX13_array_42 rfl ?_
    refine hr_icmp_ge (x := _) hC 88 dX13_array_44 (by decide) (fun c17 => ?_) (fun c17 => ?_)
    · rw [if_pos c17] at h
      obtain rfl := Option.some.inj h
      exact hr_sub _ rfl (JX am1)
    · rw [if_neg c17] at h
      refine hr_aload_n hC dX13_array_47 rfl ?_
      refine hr_gO 13 hC F14_5 rfl dX13_array_48 q800 ?_
      refine hr_iconst (v := 5) hC dX13_array_51 rfl ?_
      refine hr_aload_n hC dX13_array_52 rfl ?_
      refine hr_iload_n hC dX13_array_53 rfl ?_
      refine hr_iload_n hC dX13_array_54 rfl ?_
      refine hr_iload hC dX13_array_55 rfl ?_
      obtain ⟨r18, e19, h⟩ := hx_bind h
      refine hs_callV0 hC 14 [_, _, _] _ dX13_array_57 q2091 q2092 q2093 q327 q2094 np_X13 rfl OB_14 pd_X13_begins (Nat.le_of_ble_eq_true rfl) hd1 (okX13_begins l E A (d - 1) n (by omega)  e19 am1) rfl ?_
      obtain ⟨r22, e23, h⟩ := hx_bind h
      refine hs_callV hC 13 [_, _] _ dX13_array_60 q1908 q1909 q1910 q326 q1911 np_X12 rfl OB_13 pd_X12_set (Nat.le_of_ble_eq_true rfl) hd1 (okX12_set l E A (d - 1)  (by omega)  e23 am1) (hc_rb rfl) rfl (fun am24 ha25 => ?_)
      refine hr_aload_n hC dX13_array_63 rfl ?_
      refine hr_gO 13 hC F14_5 rfl dX13_array_64 q800 ?_
      refine hr_iconst (v := 5) hC dX13_array_67 rfl ?_
      refine hr_bipush (v := 8) hC dX13_array_68 rfl ?_
      refine hr_iload hC dX13_array_70 rfl ?_
      refine hr_iconst (v := 4) hC dX13_array_72 rfl ?_
      refine hr_iload hC dX13_array_73 rfl ?_
      refine hr_imul hC dX13_array_75 ?_
      refine hr_iadd hC dX13_array_76 ?_
      refine hr_bipush (v := 7) hC dX13_array_77 rfl ?_
      obtain ⟨r26, e27, h⟩ := hx_bind h
      refine hs_callV hC 13 [_, _, _, _] _ dX13_array_79 q2020 q2021 q2022 q326 q2023 np_X12 rfl OB_13 pd_X12_storeAt (Nat.le_of_ble_eq_true rfl) hd1 (okX12_storeAt l E A (d - 1)  (by omega)  e27 am24) (hc_rb rfl) rfl (fun am28 ha29 => ?_)
      refine hr_iinc (v := y6 + 1) hC dX13_array_82 rfl rfl (by decide) ?_
      refine hr_goto hC 40 dX13_array_85 (by decide) ?_
      exact hr_sub _ rfl (ih _ _ _ _ _ _ _ _ h JX am28)
set_option maxRecDepth 20000 in
set_option maxHeartbeats 4000000 in
theorem okX13_array (l : Launch) (E : hc_E) (A : Nat → Prop) (d : Nat) (n : Nat) (hD : 12 ≤ d) {x1 : Int32} {x2 : Int32} {σ : hc_St} {r : hc_St} (h : fm_X13_array n x1 x2 σ = some r) (am : Nat → Nat → Nat) : hc_M l hc_V0 yX13_array (ws_ yX13_array cX13_array 7 none) d E A [.ref (E.2.1 14), .int x1, .int x2] am [13] σ (.inl none) r := by
  have hd1 : 1 ≤ d := by omega
  have hd8 : 9 ≤ d := by omega
  refine hc_enter2 (own := RX13) [(0, .ref (E.2.1 14)), (1, .int x1), (2, .int x2)] pl_X13 rfl hc_V0_st hc_G0_nd rfl (Nat.le_of_ble_eq_true rfl) (fun X hC hem => ?_)
  unfold fm_X13_array at h
  refine hr_aload_n hC dX13_array_0 rfl ?_
  refine hr_gO 11 hC F14_2 rfl dX13_array_1 q797 ?_
  refine hr_iload_n hC dX13_array_4 rfl ?_
  obtain ⟨r1, e2, h⟩ := hx_bind h
  refine hs_callV0 hC 11 [_] _ dX13_array_5 q2085 q1659 q1660 q325 q1661 np_X11 rfl OB_11 pd_X11_type (Nat.le_of_ble_eq_true rfl) hd1 (okX11_type l E A (d - 1)  (by omega)  e2 am) rfl ?_
  refine hr_iconst (v := 1) hC dX13_array_8 rfl ?_
  obtain ⟨v7, hv7, h⟩ := hl_ok h
  have J54 : ∀ w55 : Int32, (if r1 = 1 then 1 else 0) = w55 → hc_At hc_V0 E 7 X 17 [(0, .ref (E.2.1 14)), (1, .int x1), (2, .int x2)] [.int w55] σ am [] := by
    intro w55 hw55
    obtain rfl := hv7.trans hw55
    refine hr_istore_n hC dX13_array_17 (by decide) ?_
    refine hr_aload_n hC dX13_array_18 rfl ?_
    refine hr_gO 16 hC F14_7 rfl dX13_array_19 q802 ?_
    refine hr_iload_n hC dX13_array_22 rfl ?_
    obtain ⟨r8, e9, h⟩ := hx_bind h
    refine hs_callV0 hC 16 [_] _ dX13_array_23 q2052 q2053 q2054 q329 q2055 np_X15 rfl OB_16 pd_X15_place_2 (Nat.le_of_ble_eq_true rfl) hd1 (okX15_place_2 l E A (d - 1)  (by omega)  e9 am) rfl ?_
    refine hr_ineg hC dX13_array_26 ?_
    refine hr_istore hC dX13_array_27 (by decide) ?_
    refine hr_aload_n hC dX13_array_29 rfl ?_
    refine hr_iload_n hC dX13_array_30 rfl ?_
    refine hr_iload_n hC dX13_array_31 rfl ?_
    obtain ⟨r12, e13, h⟩ := hx_bind h
    refine hs_callV0 hC 14 [_, _] _ dX13_array_32 q2086 q2087 q2088 q327 q2089 np_X13 rfl OB_14 pd_X13_given (Nat.le_of_ble_eq_true rfl) hd1 (okX13_given l E A (d - 1) n (by omega)  e13 am) rfl ?_
    refine hr_istore hC dX13_array_35 (by decide) ?_
    refine hr_iconst (v := 0) hC dX13_array_37 rfl ?_
    refine hr_istore hC dX13_array_38 (by decide) ?_
    obtain ⟨r30, e31, h⟩ := hx_bind h
    refine hr_sub _ rfl (ll_X13_array_40 n hD hem hC n _ _ _ _ _ _ _ _ e31 (fun am34 => ?_) am)
    refine hr_iload hC dX13_array_88 rfl ?_
    refine hr_aload_n hC dX13_array_90 rfl ?_
    refine hr_gO 11 hC F14_2 rfl dX13_array_91 q797 ?_
    refine hr_iload_n hC dX13_array_94 rfl ?_
    obtain ⟨r35, e36, h⟩ := hx_bind h
    refine hs_callV0 hC 11 [_] _ dX13_array_95 q1871 q1757 q1758 q325 q1759 np_X11 rfl OB_11 pd_X11_words (Nat.le_of_ble_eq_true rfl) hd1 (okX11_words l E A (d - 1)  (by omega)  e36 am34) rfl ?_
    obtain ⟨r41, e42, h⟩ := hx_bind h
    have J43 : ∀ am53, hc_At hc_V0 E 7 X 125 [] [] r41 am53 [] := by
      intro am53
      obtain rfl := Option.some.inj h
      exact hr_vret hC dX13_array_125
    clear h
    have h := e42
    refine hr_icmp_ge (x := _) hC 125 dX13_array_98 (by decide) (fun c40 => ?_) (fun c40 => ?_)
    · rw [if_pos c40] at h
      obtain rfl := Option.some.inj h
      exact hr_sub _ rfl (J43 am34)
    · rw [if_neg c40] at h
      refine hr_aload_n hC dX13_array_101 rfl ?_
      refine hr_bipush (v := 8) hC dX13_array_102 rfl ?_
      refine hr_iload hC dX13_array_104 rfl ?_
      refine hr_iconst (v := 4) hC dX13_array_106 rfl ?_
      refine hr_iload hC dX13_array_107 rfl ?_
      refine hr_imul hC dX13_array_109 ?_
      refine hr_iadd hC dX13_array_110 ?_
      refine hr_aload_n hC dX13_array_111 rfl ?_
      refine hr_gO 11 hC F14_2 rfl dX13_array_112 q797 ?_
      refine hr_iload_n hC dX13_array_115 rfl ?_
      obtain ⟨r45, e46, h⟩ := hx_bind h
      refine hs_callV0 hC 11 [_] _ dX13_array_116 q1871 q1757 q1758 q325 q1759 np_X11 rfl OB_11 pd_X11_words (Nat.le_of_ble_eq_true rfl) hd1 (okX11_words l E A (d - 1)  (by omega)  e46 am34) rfl ?_
      refine hr_iload hC dX13_array_119 rfl ?_
      refine hr_isub hC dX13_array_121 ?_
      obtain ⟨r49, e50, h⟩ := hx_bind h
      refine hs_callV hC 14 [_, _, _] _ dX13_array_122 q2039 q2041 qs106 q327 q2042 np_X13 rfl OB_14 pd_X13_clear (Nat.le_of_ble_eq_true rfl) hd1 (okX13_clear l E A (d - 1) n (by omega)  e50 am34) (hc_rb rfl) rfl (fun am51 ha52 => ?_)
      obtain rfl := Option.some.inj h
      exact hr_sub _ rfl (J43 am51)
  refine hr_icmp_ne (x := _) hC 16 dX13_array_9 (by decide) (fun c56 => ?_) (fun c56 => ?_)
  · refine hr_iconst (v := 0) hC dX13_array_16 rfl ?_
    exact hr_sub _ rfl (J54 _ (by first | (rw [if_neg c56]; done) | (simp only [if_neg c56]; done) | rfl))
  · refine hr_iconst (v := 1) hC dX13_array_12 rfl ?_
    refine hr_goto hC 17 dX13_array_13 (by decide) ?_
    exact hr_sub _ rfl (J54 _ (by first | (rw [if_pos c56]; done) | (simp only [if_pos c56]; done) | rfl))
/-- HomeCompiler$Folder.truth(Z)I -/
def fm_X14_truth  (x0 : Int32) (σ : hc_St) : Option Int32 := hl (α := Int32) ((if x0 = 0 then 0 else 1)) fun v3 => some v3
set_option maxRecDepth 20000 in
set_option maxHeartbeats 4000000 in
theorem okX14_truth (l : Launch) (E : hc_E) (A : Nat → Prop) (d : Nat)  (hD : 1 ≤ d) {x0 : Int32} {σ : hc_St} {r : Int32} (h : fm_X14_truth  x0 σ = some r) (am : Nat → Nat → Nat) : hc_M l hc_V0 yX14_truth (ws_ yX14_truth cX14_truth 1 (some .int)) d E A [.int x0] am [] σ (.inl (some (.int r))) σ := by
  have hd1 : 1 ≤ d := by omega
  refine hc_enter2 (own := RX14) [(0, .int x0)] pl_X14 rfl hc_V0_st hc_G0_nd rfl (Nat.le_of_ble_eq_true rfl) (fun X hC hem => ?_)
  unfold fm_X14_truth at h
  refine hr_iload_n hC dX14_truth_0 rfl ?_
  obtain ⟨v3, hv3, h⟩ := hl_ok h
  have J4 : ∀ w5 : Int32, (if x0 = 0 then 0 else 1) = w5 → hc_At hc_V0 E 1 X 9 [] [.int w5] σ am [] := by
    intro w5 hw5
    obtain rfl := hv3.trans hw5
    obtain rfl := Option.some.inj h
    exact hr_iret hC dX14_truth_9
  refine hr_if_eq (x := _) hC 8 dX14_truth_1 (by decide) (fun c6 => ?_) (fun c6 => ?_)
  · refine hr_iconst (v := 0) hC dX14_truth_8 rfl ?_
    exact hr_sub _ rfl (J4 _ (by first | (rw [if_pos c6]; done) | (simp only [if_pos c6]; done) | rfl))
  · refine hr_iconst (v := 1) hC dX14_truth_4 rfl ?_
    refine hr_goto hC 9 dX14_truth_5 (by decide) ?_
    exact hr_sub _ rfl (J4 _ (by first | (rw [if_neg c6]; done) | (simp only [if_neg c6]; done) | rfl))
/-- HomeCompiler$Folder.told(I)Z -/
def fm_X14_told  (x1 : Int32) (σ : hc_St) : Option (Int32 × hc_St) := hl (pI σ 15 1 x1) fun σ1 => some (1, σ1)
set_option maxRecDepth 20000 in
set_option maxHeartbeats 4000000 in
theorem okX14_told (l : Launch) (E : hc_E) (A : Nat → Prop) (d : Nat)  (hD : 1 ≤ d) {x1 : Int32} {σ : hc_St} {r : (Int32 × hc_St)} (h : fm_X14_told  x1 σ = some r) (am : Nat → Nat → Nat) : hc_M l hc_V0 yX14_told (ws_ yX14_told cX14_told 2 (some .boolean)) d E A [.ref (E.2.1 15), .int x1] am [] σ (.inl (some (.int r.1))) r.2 := by
  have hd1 : 1 ≤ d := by omega
  refine hc_enter2 (own := RX14) [(0, .ref (E.2.1 15)), (1, .int x1)] pl_X14 rfl hc_V0_st hc_G0_nd rfl (Nat.le_of_ble_eq_true rfl) (fun X hC hem => ?_)
  unfold fm_X14_told at h
  refine hr_aload_n hC dX14_told_0 rfl ?_
  refine hr_iload_n hC dX14_told_1 rfl ?_
  obtain ⟨σ1, hσ1, h⟩ := hl_ok h
  refine hr_pI hC F15_1 PX14_1 dX14_told_2 q755 ?_
  rw [← hσ1]
  refine hr_iconst (v := 1) hC dX14_told_5 rfl ?_
  obtain rfl := Option.some.inj h
  exact hr_zret hC rfl dX14_told_6
/-- HomeCompiler$Folder.reckon(III)I -/
def fm_X14_reckon  (x0 : Int32) (x1 : Int32) (x2 : Int32) (σ : hc_St) : Option Int32 := if x0 = 38 then (some ((x1 &&& x2))) else if x0 = 42 then (some ((x1 * x2))) else if x0 = 43 then (some ((x1 + x2))) else if x0 = 45 then (some ((x1 - x2))) else if x0 = 60 then (hl (α := Int32) ((if x2 ≤ x1 then 0 else 1)) fun v11 => Option.bind (fm_X14_truth v11 σ) fun r12 => some r12) else if x0 = 62 then (hl (α := Int32) ((if x1 ≤ x2 then 0 else 1)) fun v21 => Option.bind (fm_X14_truth v21 σ) fun r22 => some r22) else if x0 = 94 then (some ((x1 ^^^ x2))) else if x0 = 124 then (some ((x1 ||| x2))) else if x0 = 130 then (hl (α := Int32) ((if x1 = x2 then 1 else 0)) fun v31 => Option.bind (fm_X14_truth v31 σ) fun r32 => some r32) else if x0 = 131 then (hl (α := Int32) ((if x1 = x2 then 0 else 1)) fun v41 => Option.bind (fm_X14_truth v41 σ) fun r42 => some r42) else if x0 = 132 then (hl (α := Int32) ((if x2 < x1 then 0 else 1)) fun v51 => Option.bind (fm_X14_truth v51 σ) fun r52 => some r52) else if x0 = 133 then (hl (α := Int32) ((if x1 < x2 then 0 else 1)) fun v61 => Option.bind (fm_X14_truth v61 σ) fun r62 => some r62) else if x0 = 134 then (some ((jshl x1 x2))) else if x0 = 135 then (some ((jshr x1 x2))) else (Option.bind (α := Int32) (if x0 = 47 then (hk (decide (¬ x2 = 0)) <| some ((x1 / x2))) else (hk (decide (¬ x2 = 0)) <| some ((jrem x1 x2)))) fun r3 => some r3)
set_option maxRecDepth 20000 in
set_option maxHeartbeats 4000000 in
theorem okX14_reckon (l : Launch) (E : hc_E) (A : Nat → Prop) (d : Nat)  (hD : 2 ≤ d) {x0 : Int32} {x1 : Int32} {x2 : Int32} {σ : hc_St} {r : Int32} (h : fm_X14_reckon  x0 x1 x2 σ = some r) (am : Nat → Nat → Nat) : hc_M l hc_V0 yX14_reckon (ws_ yX14_reckon cX14_reckon 3 (some .int)) d E A [.int x0, .int x1, .int x2] am [] σ (.inl (some (.int r))) σ := by
  have hd1 : 1 ≤ d := by omega
  refine hc_enter2 (own := RX14) [(0, .int x0), (1, .int x1), (2, .int x2)] pl_X14 rfl hc_V0_st hc_G0_nd rfl (Nat.le_of_ble_eq_true rfl) (fun X hC hem => ?_)
  unfold fm_X14_reckon at h
  refine hr_iload_n hC dX14_reckon_0 rfl ?_
  by_cases c69 : x0 = 38
  · rw [if_pos c69] at h
    refine hr_lookup hC 132 dX14_reckon_1 (by decide) (by rw [c69] <;> rfl) (by decide) ?_
    refine hr_iload_n hC dX14_reckon_132 rfl ?_
    refine hr_iload_n hC dX14_reckon_133 rfl ?_
    refine hr_iand hC dX14_reckon_134 ?_
    obtain rfl := Option.some.inj h
    exact hr_iret hC dX14_reckon_135
  rw [if_neg c69] at h
  by_cases c70 : x0 = 42
  · rw [if_pos c70] at h
    refine hr_lookup hC 236 dX14_reckon_1 (by decide) (by rw [c70] <;> rfl) (by decide) ?_
    refine hr_iload_n hC dX14_reckon_236 rfl ?_
    refine hr_iload_n hC dX14_reckon_237 rfl ?_
    refine hr_imul hC dX14_reckon_238 ?_
    obtain rfl := Option.some.inj h
    exact hr_iret hC dX14_reckon_239
  rw [if_neg c70] at h
  by_cases c71 : x0 = 43
  · rw [if_pos c71] at h
    refine hr_lookup hC 228 dX14_reckon_1 (by decide) (by rw [c71] <;> rfl) (by decide) ?_
    refine hr_iload_n hC dX14_reckon_228 rfl ?_
    refine hr_iload_n hC dX14_reckon_229 rfl ?_
    refine hr_iadd hC dX14_reckon_230 ?_
    obtain rfl := Option.some.inj h
    exact hr_iret hC dX14_reckon_231
  rw [if_neg c71] at h
  by_cases c72 : x0 = 45
  · rw [if_pos c72] at h
    refine hr_lookup hC 232 dX14_reckon_1 (by decide) (by rw [c72] <;> rfl) (by decide) ?_
    refine hr_iload_n hC dX14_reckon_232 rfl ?_
    refine hr_iload_n hC dX14_reckon_233 rfl ?_
    refine hr_isub hC dX14_reckon_234 ?_
    obtain rfl := Option.some.inj h
    exact hr_iret hC dX14_reckon_235
  rw [if_neg c72] at h
  by_cases c73 : x0 = 60
  · rw [if_pos c73] at h
    refine hr_lookup hC 164 dX14_reckon_1 (by decide) (by rw [c73] <;> rfl) (by decide) ?_
    refine hr_iload_n hC dX14_reckon_164 rfl ?_
    refine hr_iload_n hC dX14_reckon_165 rfl ?_
    obtain ⟨v11, hv11, h⟩ := hl_ok h
    have J16 : ∀ w17 : Int32, (if x2 ≤ x1 then 0 else 1) = w17 → hc_At hc_V0 E 3 X 174 [] [.int w17] σ am [] := by
      intro w17 hw17
      obtain rfl := hv11.trans hw17
      obtain ⟨r12, e13, h⟩ := hx_bind h
      refine hs_callS0 hC [_] _ dX14_reckon_174 q2116 q2117 q328 q2118 np_X14 rfl pd_X14_truth (Nat.le_of_ble_eq_true rfl) hd1 (okX14_truth l E A (d - 1)  (by omega)  e13 am) rfl ?_
      obtain rfl := Option.some.inj h
      exact hr_iret hC dX14_reckon_177
    refine hr_icmp_ge (x := _) hC 173 dX14_reckon_166 (by decide) (fun c18 => ?_) (fun c18 => ?_)
    · refine hr_iconst (v := 0) hC dX14_reckon_173 rfl ?_
      exact hr_sub _ rfl (J16 _ (by first | (rw [if_pos c18]; done) | (simp only [if_pos c18]; done) | rfl))
    · refine hr_iconst (v := 1) hC dX14_reckon_169 rfl ?_
      refine hr_goto hC 174 dX14_reckon_170 (by decide) ?_
      exact hr_sub _ rfl (J16 _ (by first | (rw [if_neg c18]; done) | (simp only [if_neg c18]; done) | rfl))
  rw [if_neg c73] at h
  by_cases c74 : x0 = 62
  · rw [if_pos c74] at h
    refine hr_lookup hC 178 dX14_reckon_1 (by decide) (by rw [c74] <;> rfl) (by decide) ?_
    refine hr_iload_n hC dX14_reckon_178 rfl ?_
    refine hr_iload_n hC dX14_reckon_179 rfl ?_
    obtain ⟨v21, hv21, h⟩ := hl_ok h
    have J26 : ∀ w27 : Int32, (if x1 ≤ x2 then 0 else 1) = w27 → hc_At hc_V0 E 3 X 188 [] [.int w27] σ am [] := by
      intro w27 hw27
      obtain rfl := hv21.trans hw27
      obtain ⟨r22, e23, h⟩ := hx_bind h
      refine hs_callS0 hC [_] _ dX14_reckon_188 q2116 q2117 q328 q2118 np_X14 rfl pd_X14_truth (Nat.le_of_ble_eq_true rfl) hd1 (okX14_truth l E A (d - 1)  (by omega)  e23 am) rfl ?_
      obtain rfl := Option.some.inj h
      exact hr_iret hC dX14_reckon_191
    refine hr_icmp_le (x := _) hC 187 dX14_reckon_180 (by decide) (fun c28 => ?_) (fun c28 => ?_)
    · refine hr_iconst (v := 0) hC dX14_reckon_187 rfl ?_
      exact hr_sub _ rfl (J26 _ (by first | (rw [if_pos c28]; done) | (simp only [if_pos c28]; done) | rfl))
    · refine hr_iconst (v := 1) hC dX14_reckon_183 rfl ?_
      refine hr_goto hC 188 dX14_reckon_184 (by decide) ?_
      exact hr_sub _ rfl (J26 _ (by first | (rw [if_neg c28]; done) | (simp only [if_neg c28]; done) | rfl))
  rw [if_neg c74] at h
  by_cases c75 : x0 = 94
  · rw [if_pos c75] at h
    refine hr_lookup hC 128 dX14_reckon_1 (by decide) (by rw [c75] <;> rfl) (by decide) ?_
    refine hr_iload_n hC dX14_reckon_128 rfl ?_
    refine hr_iload_n hC dX14_reckon_129 rfl ?_
    refine hr_ixor hC dX14_reckon_130 ?_
    obtain rfl := Option.some.inj h
    exact hr_iret hC dX14_reckon_131
  rw [if_neg c75] at h
  by_cases c76 : x0 = 124
  · rw [if_pos c76] at h
    refine hr_lookup hC 124 dX14_reckon_1 (by decide) (by rw [c76] <;> rfl) (by decide) ?_
    refine hr_iload_n hC dX14_reckon_124 rfl ?_
    refine hr_iload_n hC dX14_reckon_125 rfl ?_
    refine hr_ior hC dX14_reckon_126 ?_
    obtain rfl := Option.some.inj h
    exact hr_iret hC dX14_reckon_127
  rw [if_neg c76] at h
  by_cases c77 : x0 = 130
  · rw [if_pos c77] at h
    refine hr_lookup hC 136 dX14_reckon_1 (by decide) (by rw [c77] <;> rfl) (by decide) ?_
    refine hr_iload_n hC dX14_reckon_136 rfl ?_
    refine hr_iload_n hC dX14_reckon_137 rfl ?_
    obtain ⟨v31, hv31, h⟩ := hl_ok h
    have J36 : ∀ w37 : Int32, (if x1 = x2 then 1 else 0) = w37 → hc_At hc_V0 E 3 X 146 [] [.int w37] σ am [] := by
      intro w37 hw37
      obtain rfl := hv31.trans hw37
      obtain ⟨r32, e33, h⟩ := hx_bind h
      refine hs_callS0 hC [_] _ dX14_reckon_146 q2116 q2117 q328 q2118 np_X14 rfl pd_X14_truth (Nat.le_of_ble_eq_true rfl) hd1 (okX14_truth l E A (d - 1)  (by omega)  e33 am) rfl ?_
      obtain rfl := Option.some.inj h
      exact hr_iret hC dX14_reckon_149
    refine hr_icmp_ne (x := _) hC 145 dX14_reckon_138 (by decide) (fun c38 => ?_) (fun c38 => ?_)
    · refine hr_iconst (v := 0) hC dX14_reckon_145 rfl ?_
      exact hr_sub _ rfl (J36 _ (by first | (rw [if_neg c38]; done) | (simp only [if_neg c38]; done) | rfl))
    · refine hr_iconst (v := 1) hC dX14_reckon_141 rfl ?_
      refine hr_goto hC 146 dX14_reckon_142 (by decide) ?_
      exact hr_sub _ rfl (J36 _ (by first | (rw [if_pos c38]; done) | (simp only [if_pos c38]; done) | rfl))
  rw [if_neg c77] at h
  by_cases c78 : x0 = 131
  · rw [if_pos c78] at h
    refine hr_lookup hC 150 dX14_reckon_1 (by decide) (by rw [c78] <;> rfl) (by decide) ?_
    refine hr_iload_n hC dX14_reckon_150 rfl ?_
    refine hr_iload_n hC dX14_reckon_151 rfl ?_
    obtain ⟨v41, hv41, h⟩ := hl_ok h
    have J46 : ∀ w47 : Int32, (if x1 = x2 then 0 else 1) = w47 → hc_At hc_V0 E 3 X 160 [] [.int w47] σ am [] := by
      intro w47 hw47
      obtain rfl := hv41.trans hw47
      obtain ⟨r42, e43, h⟩ := hx_bind h
      refine hs_callS0 hC [_] _ dX14_reckon_160 q2116 q2117 q328 q2118 np_X14 rfl pd_X14_truth (Nat.le_of_ble_eq_true rfl) hd1 (okX14_truth l E A (d - 1)  (by omega)  e43 am) rfl ?_
      obtain rfl := Option.some.inj h
      exact hr_iret hC dX14_reckon_163
    refine hr_icmp_eq (x := _) hC 159 dX14_reckon_152 (by decide) (fun c48 => ?_) (fun c48 => ?_)
    · refine hr_iconst (v := 0) hC dX14_reckon_159 rfl ?_
      exact hr_sub _ rfl (J46 _ (by first | (rw [if_pos c48]; done) | (simp only [if_pos c48]; done) | rfl))
    · refine hr_iconst (v := 1) hC dX14_reckon_155 rfl ?_
      refine hr_goto hC 160 dX14_reckon_156 (by decide) ?_
      exact hr_sub _ rfl (J46 _ (by first | (rw [if_neg c48]; done) | (simp only [if_neg c48]; done) | rfl))
  rw [if_neg c78] at h
  by_cases c79 : x0 = 132
  · rw [if_pos c79] at h
    refine hr_lookup hC 192 dX14_reckon_1 (by decide) (by rw [c79] <;> rfl) (by decide) ?_
    refine hr_iload_n hC dX14_reckon_192 rfl ?_
    refine hr_iload_n hC dX14_reckon_193 rfl ?_
    obtain ⟨v51, hv51, h⟩ := hl_ok h
    have J56 : ∀ w57 : Int32, (if x2 < x1 then 0 else 1) = w57 → hc_At hc_V0 E 3 X 202 [] [.int w57] σ am [] := by
      intro w57 hw57
      obtain rfl := hv51.trans hw57
      obtain ⟨r52, e53, h⟩ := hx_bind h
      refine hs_callS0 hC [_] _ dX14_reckon_202 q2116 q2117 q328 q2118 np_X14 rfl pd_X14_truth (Nat.le_of_ble_eq_true rfl) hd1 (okX14_truth l E A (d - 1)  (by omega)  e53 am) rfl ?_
      obtain rfl := Option.some.inj h
      exact hr_iret hC dX14_reckon_205
    refine hr_icmp_gt (x := _) hC 201 dX14_reckon_194 (by decide) (fun c58 => ?_) (fun c58 => ?_)
    · refine hr_iconst (v := 0) hC dX14_reckon_201 rfl ?_
      exact hr_sub _ rfl (J56 _ (by first | (rw [if_pos c58]; done) | (simp only [if_pos c58]; done) | rfl))
    · refine hr_iconst (v := 1) hC dX14_reckon_197 rfl ?_
      refine hr_goto hC 202 dX14_reckon_198 (by decide) ?_
      exact hr_sub _ rfl (J56 _ (by first | (rw [if_neg c58]; done) | (simp only [if_neg c58]; done) | rfl))
  rw [if_neg c79] at h
  by_cases c80 : x0 = 133
  · rw [if_pos c80] at h
    refine hr_lookup hC 206 dX14_reckon_1 (by decide) (by rw [c80] <;> rfl) (by decide) ?_
    refine hr_iload_n hC dX14_reckon_206 rfl ?_
    refine hr_iload_n hC dX14_reckon_207 rfl ?_
    obtain ⟨v61, hv61, h⟩ := hl_ok h
    have J66 : ∀ w67 : Int32, (if x1 < x2 then 0 else 1) = w67 → hc_At hc_V0 E 3 X 216 [] [.int w67] σ am [] := by
      intro w67 hw67
      obtain rfl := hv61.trans hw67
      obtain ⟨r62, e63, h⟩ := hx_bind h
      refine hs_callS0 hC [_] _ dX14_reckon_216 q2116 q2117 q328 q2118 np_X14 rfl pd_X14_truth (Nat.le_of_ble_eq_true rfl) hd1 (okX14_truth l E A (d - 1)  (by omega)  e63 am) rfl ?_
      obtain rfl := Option.some.inj h
      exact hr_iret hC dX14_reckon_219
    refine hr_icmp_lt (x := _) hC 215 dX14_reckon_208 (by decide) (fun c68 => ?_) (fun c68 => ?_)
    · refine hr_iconst (v := 0) hC dX14_reckon_215 rfl ?_
      exact hr_sub _ rfl (J66 _ (by first | (rw [if_pos c68]; done) | (simp only [if_pos c68]; done) | rfl))
    · refine hr_iconst (v := 1) hC dX14_reckon_211 rfl ?_
      refine hr_goto hC 216 dX14_reckon_212 (by decide) ?_
      exact hr_sub _ rfl (J66 _ (by first | (rw [if_neg c68]; done) | (simp only [if_neg c68]; done) | rfl))
  rw [if_neg c80] at h
  by_cases c81 : x0 = 134
  · rw [if_pos c81] at h
    refine hr_lookup hC 220 dX14_reckon_1 (by decide) (by rw [c81] <;> rfl) (by decide) ?_
    refine hr_iload_n hC dX14_reckon_220 rfl ?_
    refine hr_iload_n hC dX14_reckon_221 rfl ?_
    refine hr_ishl hC dX14_reckon_222 ?_
    obtain rfl := Option.some.inj h
    exact hr_iret hC dX14_reckon_223
  rw [if_neg c81] at h
  by_cases c82 : x0 = 135
  · rw [if_pos c82] at h
    refine hr_lookup hC 224 dX14_reckon_1 (by decide) (by rw [c82] <;> rfl) (by decide) ?_
    refine hr_iload_n hC dX14_reckon_224 rfl ?_
    refine hr_iload_n hC dX14_reckon_225 rfl ?_
    refine hr_ishr hC dX14_reckon_226 ?_
    obtain rfl := Option.some.inj h
    exact hr_iret hC dX14_reckon_227
  rw [if_neg c82] at h
  refine hr_lookup hC 240 dX14_reckon_1 (by decide) (hc_lkD (hc_l1 (hc_ne c69 rfl) (hc_l1 (hc_ne c70 rfl) (hc_l1 (hc_ne c71 rfl) (hc_l1 (hc_ne c72 rfl) (hc_l1 (hc_ne c73 rfl) (hc_l1 (hc_ne c74 rfl) (hc_l1 (hc_ne c75 rfl) (hc_l1 (hc_ne c76 rfl) (hc_l1 (hc_ne c77 rfl) (hc_l1 (hc_ne c78 rfl) (hc_l1 (hc_ne c79 rfl) (hc_l1 (hc_ne c80 rfl) (hc_l1 (hc_ne c81 rfl) (hc_l1 (hc_ne c82 rfl) hc_l0))))))))))))))) (by decide) ?_
  refine hr_iload_n hC dX14_reckon_240 rfl ?_
  refine hr_bipush (v := 47) hC dX14_reckon_241 rfl ?_
  obtain ⟨r3, e4, h⟩ := hx_bind h
  have J5 : hc_At hc_V0 E 3 X 255 [] [.int r3] σ am [] := by
    obtain rfl := Option.some.inj h
    exact hr_iret hC dX14_reckon_255
  clear h
  have h := e4
  refine hr_icmp_ne (x := _) hC 252 dX14_reckon_243 (by decide) (fun c2 => ?_) (fun c2 => ?_)
  · rw [if_neg c2] at h
    refine hr_iload_n hC dX14_reckon_252 rfl ?_
    refine hr_iload_n hC dX14_reckon_253 rfl ?_
    obtain ⟨c7, h⟩ := hk_ok h
    refine hr_irem hC dX14_reckon_254 (of_decide_eq_true c7) ?_
    obtain rfl := Option.some.inj h
    exact hr_sub _ rfl (J5)
  · rw [if_pos c2] at h
    refine hr_iload_n hC dX14_reckon_246 rfl ?_
    refine hr_iload_n hC dX14_reckon_247 rfl ?_
    obtain ⟨c8, h⟩ := hk_ok h
    refine hr_idiv hC dX14_reckon_248 (of_decide_eq_true c8) ?_
    refine hr_goto hC 255 dX14_reckon_249 (by decide) ?_
    obtain rfl := Option.some.inj h
    exact hr_sub _ rfl (J5)
