set_option maxRecDepth 20000
/-- HomeCompiler$Hart.step()I -/
def fm_X19_step (n : Nat)  (σ : hc_St) : Option (Int32 × hc_St) := Option.bind (α := Int32) (if (gI σ 20 5) = 0 then (Option.bind (fm_X18_due  σ) fun r7 => some (r7)) else (some (0))) fun r3 => Option.bind (α := hc_St × Int32) (if r3 = 1 then (Option.bind (fm_X19_trap 24 0 σ) fun r27 => some (r27.2, r27.1)) else (if r3 = 2 then (Option.bind (fm_X19_trap ((-2147483643)) 0 σ) fun r23 => some (r23.2, r23.1)) else (Option.bind (fm_X19_fetch n σ) fun r19 => some (r19.2, r19.1)))) fun r13 => Option.bind (α := hc_St) (if r13.2 = 1 then (some (r13.1)) else (if (gI σ 20 5) = 0 then (Option.bind (fm_X18_count  r13.1) fun r39 => some (r39)) else (some (r13.1)))) fun r33 => hl (pI r33 20 4 ((gI r33 20 6))) fun σ43 => some (r13.2, σ43)
set_option maxRecDepth 20000 in
set_option maxHeartbeats 4000000 in
theorem okX19_step (l : Launch) (E : hc_E) (A : Nat → Prop) (d : Nat) (n : Nat) (hD : 8 ≤ d)  {σ : hc_St} {r : (Int32 × hc_St)} (h : fm_X19_step n  σ = some r) (am : Nat → Nat → Nat) : hc_M l hc_V0 yX19_step (ws_ yX19_step cX19_step 4 (some .int)) d E A [.ref (E.2.1 20)] am [] σ (.inl (some (.int r.1))) r.2 := by
  have hd1 : 1 ≤ d := by omega
  refine hc_enter2 (own := RX19) [(0, .ref (E.2.1 20))] pl_X19 rfl hc_V0_st hc_G0_nd rfl (Nat.le_of_ble_eq_true rfl) (fun X hC hem => ?_)
  unfold fm_X19_step at h
  refine hr_aload_n hC dX19_step_0 rfl ?_
  refine hr_gI hC F20_5 dX19_step_1 q928 ?_
  refine hr_istore_n hC dX19_step_4 (by decide) ?_
  refine hr_iload_n hC dX19_step_5 rfl ?_
  obtain ⟨r3, e4, h⟩ := hx_bind h
  have J5 : hc_At hc_V0 E 4 X 20 [(0, .ref (E.2.1 20)), (1, .int (gI σ 20 5))] [.int r3] σ am [] := by
    refine hr_istore_n hC dX19_step_20 (by decide) ?_
    refine hr_iload_n hC dX19_step_21 rfl ?_
    refine hr_iconst (v := 1) hC dX19_step_22 rfl ?_
    obtain ⟨r13, e14, h⟩ := hx_bind h
    have J15 : hc_At hc_V0 E 4 X 55 [(0, .ref (E.2.1 20)), (1, .int (gI σ 20 5))] [.int r13.2] r13.1 am [] := by
      refine hr_istore_n hC dX19_step_55 (by decide) ?_
      refine hr_iload_n hC dX19_step_56 rfl ?_
      refine hr_iconst (v := 1) hC dX19_step_57 rfl ?_
      obtain ⟨r33, e34, h⟩ := hx_bind h
      have J35 : hc_At hc_V0 E 4 X 72 [(0, .ref (E.2.1 20)), (3, .int r13.2)] [] r33 am [] := by
        refine hr_aload_n hC dX19_step_72 rfl ?_
        refine hr_aload_n hC dX19_step_73 rfl ?_
        refine hr_gI hC F20_6 dX19_step_74 q930 ?_
        obtain ⟨σ43, hσ43, h⟩ := hl_ok h
        refine hr_pI hC F20_4 PX19_4 dX19_step_77 q927 ?_
        rw [← hσ43]
        refine hr_iload_n hC dX19_step_80 rfl ?_
        obtain rfl := Option.some.inj h
        exact hr_iret hC dX19_step_81
      clear h
      have h := e34
      refine hr_icmp_eq (x := _) hC 72 dX19_step_58 (by decide) (fun c32 => ?_) (fun c32 => ?_)
      · rw [if_pos c32] at h
        obtain rfl := Option.some.inj h
        exact hr_sub _ rfl (J35)
      · rw [if_neg c32] at h
        refine hr_iload_n hC dX19_step_61 rfl ?_
        refine hr_if_ne (x := _) hC 72 dX19_step_62 (by decide) (fun c38 => ?_) (fun c38 => ?_)
        · rw [if_neg c38] at h
          obtain rfl := Option.some.inj h
          exact hr_sub _ rfl (J35)
        · rw [if_pos c38] at h
          refine hr_aload_n hC dX19_step_65 rfl ?_
          refine hr_gO 19 hC F20_1 rfl dX19_step_66 q921 ?_
          obtain ⟨r39, e40, h⟩ := hx_bind h
          refine hs_callV0 hC 19 [] _ dX19_step_69 q2654 q2655 q2656 q332 q2657 np_X18 rfl OB_19 pd_X18_count (Nat.le_of_ble_eq_true rfl) hd1 (okX18_count l E A (d - 1)  (by omega)  e40 am) rfl ?_
          obtain rfl := Option.some.inj h
          exact hr_sub _ rfl (J35)
    clear h
    have h := e14
    refine hr_icmp_ne (x := _) hC 36 dX19_step_23 (by decide) (fun c12 => ?_) (fun c12 => ?_)
    · rw [if_neg c12] at h
      refine hr_iload_n hC dX19_step_36 rfl ?_
      refine hr_iconst (v := 2) hC dX19_step_37 rfl ?_
      refine hr_icmp_ne (x := _) hC 51 dX19_step_38 (by decide) (fun c18 => ?_) (fun c18 => ?_)
      · rw [if_neg c18] at h
        refine hr_aload_n hC dX19_step_51 rfl ?_
        obtain ⟨r19, e20, h⟩ := hx_bind h
        refine hs_callV0 hC 20 [] _ dX19_step_52 q2508 q2510 qs158 q333 q2511 np_X19 rfl OB_20 pd_X19_fetch (Nat.le_of_ble_eq_true rfl) hd1 (okX19_fetch l E A (d - 1) n (by omega)  e20 am) rfl ?_
        obtain rfl := Option.some.inj h
        exact hr_sub _ rfl (J15)
      · rw [if_pos c18] at h
        refine hr_aload_n hC dX19_step_41 rfl ?_
        refine hr_ldc hC dX19_step_42 q2507 ?_
        refine hr_iconst (v := 0) hC dX19_step_44 rfl ?_
        obtain ⟨r23, e24, h⟩ := hx_bind h
        refine hs_callV0 hC 20 [_, _] _ dX19_step_45 q2493 q2495 qs157 q333 q2496 np_X19 rfl OB_20 pd_X19_trap (Nat.le_of_ble_eq_true rfl) hd1 (okX19_trap l E A (d - 1)  (by omega)  e24 am) rfl ?_
        refine hr_goto hC 55 dX19_step_48 (by decide) ?_
        obtain rfl := Option.some.inj h
        exact hr_sub _ rfl (J15)
    · rw [if_pos c12] at h
      refine hr_aload_n hC dX19_step_26 rfl ?_
      refine hr_bipush (v := 24) hC dX19_step_27 rfl ?_
      refine hr_iconst (v := 0) hC dX19_step_29 rfl ?_
      obtain ⟨r27, e28, h⟩ := hx_bind h
      refine hs_callV0 hC 20 [_, _] _ dX19_step_30 q2493 q2495 qs157 q333 q2496 np_X19 rfl OB_20 pd_X19_trap (Nat.le_of_ble_eq_true rfl) hd1 (okX19_trap l E A (d - 1)  (by omega)  e28 am) rfl ?_
      refine hr_goto hC 55 dX19_step_33 (by decide) ?_
      obtain rfl := Option.some.inj h
      exact hr_sub _ rfl (J15)
  clear h
  have h := e4
  refine hr_if_ne (x := _) hC 19 dX19_step_6 (by decide) (fun c2 => ?_) (fun c2 => ?_)
  · rw [if_neg c2] at h
    refine hr_iconst (v := 0) hC dX19_step_19 rfl ?_
    obtain rfl := Option.some.inj h
    exact hr_sub _ rfl (J5)
  · rw [if_pos c2] at h
    refine hr_aload_n hC dX19_step_9 rfl ?_
    refine hr_gO 19 hC F20_1 rfl dX19_step_10 q921 ?_
    obtain ⟨r7, e8, h⟩ := hx_bind h
    refine hs_callV0 hC 19 [] _ dX19_step_13 q2489 q2490 q2491 q332 q2492 np_X18 rfl OB_19 pd_X18_due (Nat.le_of_ble_eq_true rfl) hd1 (okX18_due l E A (d - 1)  (by omega)  e8 am) rfl ?_
    refine hr_goto hC 20 dX19_step_16 (by decide) ?_
    obtain rfl := Option.some.inj h
    exact hr_sub _ rfl (J5)
/-- HomeCompiler$Host.write(I)V -/
def fm_X16_write  (x1 : Int32) (σ : hc_St) : Option hc_St := Option.bind (α := hc_St) (if 1024 ≤ (gI σ 17 4) then (some (σ)) else (hk (inb ((gI σ 17 4)) (gL σ 17 3)) <| hl (pC σ 17 3 ((gI σ 17 4)) x1) fun σ8 => some (σ8))) fun r3 => hl (pI r3 17 4 ((((gI r3 17 4)) + 1))) fun σ9 => some σ9
set_option maxRecDepth 20000 in
set_option maxHeartbeats 4000000 in
theorem okX16_write (l : Launch) (E : hc_E) (A : Nat → Prop) (d : Nat)  (hD : 1 ≤ d) {x1 : Int32} {σ : hc_St} {r : hc_St} (h : fm_X16_write  x1 σ = some r) (am : Nat → Nat → Nat) : hc_M l hc_V0 yX16_write (ws_ yX16_write cX16_write 2 none) d E A [.ref (E.2.1 17), .int x1] am [] σ (.inl none) r := by
  have hd1 : 1 ≤ d := by omega
  refine hc_enter2 (own := RX16) [(0, .ref (E.2.1 17)), (1, .int x1)] pl_X16 rfl hc_V0_st hc_G0_nd rfl (Nat.le_of_ble_eq_true rfl) (fun X hC hem => ?_)
  unfold fm_X16_write at h
  refine hr_aload_n hC dX16_write_0 rfl ?_
  refine hr_gI hC F17_4 dX16_write_1 q953 ?_
  refine hr_sipush (v := 1024) hC dX16_write_4 rfl ?_
  obtain ⟨r3, e4, h⟩ := hx_bind h
  have J5 : hc_At hc_V0 E 2 X 20 [(0, .ref (E.2.1 17))] [] r3 am [] := by
    refine hr_aload_n hC dX16_write_20 rfl ?_
    refine hr_dup hC dX16_write_21 rfl ?_
    refine hr_gI hC F17_4 dX16_write_22 q953 ?_
    refine hr_iconst (v := 1) hC dX16_write_25 rfl ?_
    refine hr_iadd hC dX16_write_26 ?_
    obtain ⟨σ9, hσ9, h⟩ := hl_ok h
    refine hr_pI hC F17_4 PX16_4 dX16_write_27 q953 ?_
    rw [← hσ9]
    obtain rfl := Option.some.inj h
    exact hr_vret hC dX16_write_30
  clear h
  have h := e4
  refine hr_icmp_ge (x := _) hC 20 dX16_write_7 (by decide) (fun c2 => ?_) (fun c2 => ?_)
  · rw [if_pos c2] at h
    obtain rfl := Option.some.inj h
    exact hr_sub _ rfl (J5)
  · rw [if_neg c2] at h
    refine hr_aload_n hC dX16_write_10 rfl ?_
    refine hr_gA hC F17_3 rfl dX16_write_11 q951 ?_
    refine hr_aload_n hC dX16_write_14 rfl ?_
    refine hr_gI hC F17_4 dX16_write_15 q953 ?_
    refine hr_iload_n hC dX16_write_18 rfl ?_
    obtain ⟨c7, h⟩ := hk_ok h
    obtain ⟨σ8, hσ8, h⟩ := hl_ok h
    refine hs_iast hC A17_3 c7 dX16_write_19 ?_
    rw [← hσ8]
    obtain rfl := Option.some.inj h
    exact hr_sub _ rfl (J5)
/-- HomeCompiler$Host.answers(I)I -/
def fm_X16_answers  (x1 : Int32) (σ : hc_St) : Option (Int32 × hc_St) := hk (inb 10 (gL σ 20 3)) <| hl (pC σ 20 3 10 x1) fun σ2 => some ((-1), σ2)
set_option maxRecDepth 20000 in
set_option maxHeartbeats 4000000 in
theorem okX16_answers (l : Launch) (E : hc_E) (A : Nat → Prop) (d : Nat)  (hD : 1 ≤ d) {x1 : Int32} {σ : hc_St} {r : (Int32 × hc_St)} (h : fm_X16_answers  x1 σ = some r) (am : Nat → Nat → Nat) : hc_M l hc_V0 yX16_answers (ws_ yX16_answers cX16_answers 2 (some .int)) d E A [.ref (E.2.1 17), .int x1] am [] σ (.inl (some (.int r.1))) r.2 := by
  have hd1 : 1 ≤ d := by omega
  refine hc_enter2 (own := RX16) [(0, .ref (E.2.1 17)), (1, .int x1)] pl_X16 rfl hc_V0_st hc_G0_nd rfl (Nat.le_of_ble_eq_true rfl) (fun X hC hem => ?_)
  unfold fm_X16_answers at h
  refine hr_aload_n hC dX16_answers_0 rfl ?_
  refine hr_gO 20 hC F17_2 rfl dX16_answers_1 q949 ?_
  refine hr_gAN hC F20_3 rfl dX16_answers_4 (nl_9 hC.2.2.2.2.2.2.2.2.1) ?_
  refine hr_bipush (v := 10) hC dX16_answers_7 rfl ?_
  refine hr_iload_n hC dX16_answers_9 rfl ?_
  obtain ⟨c1, h⟩ := hk_ok h
  obtain ⟨σ2, hσ2, h⟩ := hl_ok h
  refine hs_iast hC A20_3 c1 dX16_answers_10 ?_
  rw [← hσ2]
  refine hr_iconst (v := (-1)) hC dX16_answers_11 rfl ?_
  obtain rfl := Option.some.inj h
  exact hr_iret hC dX16_answers_12
def lp_X16_takes_29 (n : Nat) : Nat → Int32 → Int32 → hc_St → Option (hc_St)
  | 0, _, _, _ => none
  | m + 1, y1, y2, σ => if (gI σ 17 6) ≤ y2 then (some (σ)) else (hk (inb ((y2 + 1)) (gL σ 17 5)) <| hk (inb y2 (gL σ 17 5)) <| hl (pC σ 17 5 y2 ((gC σ 17 5 ((y2 + 1))))) fun σ9 => lp_X16_takes_29 n m y1 ((y2 + 1)) σ9)
/-- HomeCompiler$Host.takes()I -/
def fm_X16_takes (n : Nat)  (σ : hc_St) : Option (Int32 × hc_St) := if (gI σ 17 6) = 0 then (some (6, σ)) else (hk (inb 0 (gL σ 17 5)) <| hl (pI σ 17 6 ((((gI σ 17 6)) - 1))) fun σ4 => Option.bind (lp_X16_takes_29 n n ((gC σ 17 5 0)) 0 σ4) fun r10 => Option.bind (fm_X16_answers ((gC σ 17 5 0)) r10) fun r15 => some (r15.1, r15.2))
set_option maxRecDepth 20000 in
set_option maxHeartbeats 4000000 in
theorem ll_X16_takes_29 {l : Launch} {E : hc_E} {A : Nat → Prop} {am : Nat → Nat → Nat} {d : Nat} {X : hc_X} (n : Nat) (hD : 2 ≤ d) (hem : X.2.2.2.2.2.2.2.2.2.1.exceptionTable.isEmpty = true) {oc : hc_Oc} {σe : hc_St} (hC : hc_C hc_V0 E cX16_takes 3 RX16 (some .int) d oc σe (l, A, am, []) X) : ∀ (m : Nat) (σ : hc_St) (y1 : Int32) (y2 : Int32) (rl : hc_St) (am1 : Nat → Nat → Nat), lp_X16_takes_29 n m y1 y2 σ = some rl → (hc_At hc_V0 E 3 X 57 [(0, .ref (E.2.1 17)), (1, .int y1)] [] rl am1 []) → hc_At hc_V0 E 3 X 29 [(0, .ref (E.2.1 17)), (1, .int y1), (2, .int y2)] [] σ am1 [] := by
  have hd1 : 1 ≤ d := by omega
  intro m
  induction m with
  | zero =>
    intro σ y1 y2 rl am1 h
    cases h
  | succ m ih =>
    intro σ y1 y2 rl am1 h JX
    rw [lp_X16_takes_29] at h
    refine hr_iload_n hC dX16_takes_29 rfl ?_
    refine hr_aload_n hC dX16_takes_30 rfl ?_
    refine hr_gI hC F17_6 dX16_takes_31 q957 ?_
    refine hr_icmp_ge (x := _) hC 57 dX16_takes_34 (by decide) (fun c6 => ?_) (fun c6 => ?_)
    · rw [if_pos c6] at h
      obtain rfl := Option.some.inj h
      exact hr_sub _ rfl (JX)
    · rw [if_neg c6] at h
      refine hr_aload_n hC dX16_takes_37 rfl ?_
      refine hr_gA hC F17_5 rfl dX16_takes_38 q955 ?_
      refine hr_iload_n hC dX16_takes_41 rfl ?_
      refine hr_aload_n hC dX16_takes_42 rfl ?_
      refine hr_gA hC F17_5 rfl dX16_takes_43 q955 ?_
      refine hr_iload_n hC dX16_takes_46 rfl ?_
      refine hr_iconst (v := 1) hC dX16_takes_47 rfl ?_
      refine hr_iadd hC dX16_takes_48 ?_
      obtain ⟨c7, h⟩ := hk_ok h
      refine hs_iald hC A17_5 c7 dX16_takes_49 ?_
      obtain ⟨c8, h⟩ := hk_ok h
      obtain ⟨σ9, hσ9, h⟩ := hl_ok h
      refine hs_iast hC A17_5 c8 dX16_takes_50 ?_
      rw [← hσ9]
      refine hr_iinc (v := y2 + 1) hC dX16_takes_51 rfl rfl (by decide) ?_
      refine hr_goto hC 29 dX16_takes_54 (by decide) ?_
      exact hr_sub _ rfl (ih _ _ _ _ am1 h JX)
set_option maxRecDepth 20000 in
set_option maxHeartbeats 4000000 in
theorem okX16_takes (l : Launch) (E : hc_E) (A : Nat → Prop) (d : Nat) (n : Nat) (hD : 2 ≤ d)  {σ : hc_St} {r : (Int32 × hc_St)} (h : fm_X16_takes n  σ = some r) (am : Nat → Nat → Nat) : hc_M l hc_V0 yX16_takes (ws_ yX16_takes cX16_takes 3 (some .int)) d E A [.ref (E.2.1 17)] am [] σ (.inl (some (.int r.1))) r.2 := by
  have hd1 : 1 ≤ d := by omega
  refine hc_enter2 (own := RX16) [(0, .ref (E.2.1 17))] pl_X16 rfl hc_V0_st hc_G0_nd rfl (Nat.le_of_ble_eq_true rfl) (fun X hC hem => ?_)
  unfold fm_X16_takes at h
  refine hr_aload_n hC dX16_takes_0 rfl ?_
  refine hr_gI hC F17_6 dX16_takes_1 q957 ?_
  refine hr_if_ne (x := _) hC 10 dX16_takes_4 (by decide) (fun c2 => ?_) (fun c2 => ?_)
  · rw [if_neg c2] at h
    refine hr_aload_n hC dX16_takes_10 rfl ?_
    refine hr_gA hC F17_5 rfl dX16_takes_11 q955 ?_
    refine hr_iconst (v := 0) hC dX16_takes_14 rfl ?_
    obtain ⟨c3, h⟩ := hk_ok h
    refine hs_iald hC A17_5 c3 dX16_takes_15 ?_
    refine hr_istore_n hC dX16_takes_16 (by decide) ?_
    refine hr_aload_n hC dX16_takes_17 rfl ?_
    refine hr_dup hC dX16_takes_18 rfl ?_
    refine hr_gI hC F17_6 dX16_takes_19 q957 ?_
    refine hr_iconst (v := 1) hC dX16_takes_22 rfl ?_
    refine hr_isub hC dX16_takes_23 ?_
    obtain ⟨σ4, hσ4, h⟩ := hl_ok h
    refine hr_pI hC F17_6 PX16_6 dX16_takes_24 q957 ?_
    rw [← hσ4]
    refine hr_iconst (v := 0) hC dX16_takes_27 rfl ?_
    refine hr_istore_n hC dX16_takes_28 (by decide) ?_
    obtain ⟨r10, e11, h⟩ := hx_bind h
    refine hr_sub _ rfl (ll_X16_takes_29 n hD hem hC n _ _ _ _ am e11 ?_)
    refine hr_aload_n hC dX16_takes_57 rfl ?_
    refine hr_iload_n hC dX16_takes_58 rfl ?_
    obtain ⟨r15, e16, h⟩ := hx_bind h
    refine hs_callV0 hC 17 [_] _ dX16_takes_59 q2670 q2672 qs171 q330 q2673 np_X16 rfl OB_17 pd_X16_answers (Nat.le_of_ble_eq_true rfl) hd1 (okX16_answers l E A (d - 1)  (by omega)  e16 am) rfl ?_
    obtain rfl := Option.some.inj h
    exact hr_iret hC dX16_takes_62
  · rw [if_pos c2] at h
    refine hr_bipush (v := 6) hC dX16_takes_7 rfl ?_
    obtain rfl := Option.some.inj h
    exact hr_iret hC dX16_takes_9
def lp_X16_moves_3 (n : Nat) : Nat → Int32 → Int32 → Int32 → Int32 → Int32 → hc_St → Option (hc_St)
  | 0, _, _, _, _, _, _ => none
  | m + 1, y1, y2, y3, y4, y5, σ => if y3 ≤ y5 then (some (σ)) else (Option.bind (α := hc_St) (if y4 = 0 then (Option.bind (fm_X17_word ((y2 + ((4 * y5)))) σ) fun r9 => hk (inb ((((16 * y1)) + y5)) (gL σ 17 7)) <| hl (pC σ 17 7 ((((16 * y1)) + y5)) r9) fun σ14 => some (σ14)) else (hk (inb ((((16 * y1)) + y5)) (gL σ 17 7)) <| Option.bind (fm_X17_write ((y2 + ((4 * y5)))) ((gC σ 17 7 ((((16 * y1)) + y5)))) σ) fun r16 => some (r16))) fun r5 => lp_X16_moves_3 n m y1 y2 y3 y4 ((y5 + 1)) r5)
/-- HomeCompiler$Host.moves(IIIZ)I -/
def fm_X16_moves (n : Nat) (x1 : Int32) (x2 : Int32) (x3 : Int32) (x4 : Int32) (σ : hc_St) : Option (Int32 × hc_St) := Option.bind (lp_X16_moves_3 n n x1 x2 x3 x4 0 σ) fun r20 => some ((-1), r20)
set_option maxRecDepth 20000 in
set_option maxHeartbeats 4000000 in
theorem ll_X16_moves_3 {l : Launch} {E : hc_E} {A : Nat → Prop} {am : Nat → Nat → Nat} {d : Nat} {X : hc_X} (n : Nat) (hD : 2 ≤ d) (hem : X.2.2.2.2.2.2.2.2.2.1.exceptionTable.isEmpty = true) {oc : hc_Oc} {σe : hc_St} (hC : hc_C hc_V0 E cX16_moves 6 RX16 (some .int) d oc σe (l, A, am, []) X) : ∀ (m : Nat) (σ : hc_St) (y1 : Int32) (y2 : Int32) (y3 : Int32) (y4 : Int32) (y5 : Int32) (rl : hc_St) (am1 : Nat → Nat → Nat), lp_X16_moves_3 n m y1 y2 y3 y4 y5 σ = some rl → (hc_At hc_V0 E 6 X 73 [] [] rl am1 []) → hc_At hc_V0 E 6 X 3 [(0, .ref (E.2.1 17)), (1, .int y1), (2, .int y2), (3, .int y3), (4, .int y4), (5, .int y5)] [] σ am1 [] := by
  have hd1 : 1 ≤ d := by omega
  intro m
  induction m with
  | zero =>
    intro σ y1 y2 y3 y4 y5 rl am1 h
    cases h
  | succ m ih =>
    intro σ y1 y2 y3 y4 y5 rl am1 h JX
    rw [lp_X16_moves_3] at h
    refine hr_iload hC dX16_moves_3 rfl ?_
    refine hr_iload_n hC dX16_moves_5 rfl ?_
    refine hr_icmp_ge (x := _) hC 73 dX16_moves_6 (by decide) (fun c2 => ?_) (fun c2 => ?_)
    · rw [if_pos c2] at h
      obtain rfl := Option.some.inj h
      exact hr_sub _ rfl (JX)
    · rw [if_neg c2] at h
      refine hr_iload hC dX16_moves_9 rfl ?_
      obtain ⟨r5, e6, h⟩ := hx_bind h
      have J7 : hc_At hc_V0 E 6 X 67 [(0, .ref (E.2.1 17)), (1, .int y1), (2, .int y2), (3, .int y3), (4, .int y4), (5, .int y5)] [] r5 am1 [] := by
        refine hr_iinc (v := y5 + 1) hC dX16_moves_67 rfl rfl (by decide) ?_
        refine hr_goto hC 3 dX16_moves_70 (by decide) ?_
        exact hr_sub _ rfl (ih _ _ _ _ _ _ _ am1 h JX)
      clear h
      have h := e6
      refine hr_if_eq (x := _) hC 42 dX16_moves_11 (by decide) (fun c4 => ?_) (fun c4 => ?_)
      · rw [if_pos c4] at h
        refine hr_aload_n hC dX16_moves_42 rfl ?_
        refine hr_gA hC F17_7 rfl dX16_moves_43 q959 ?_
        refine hr_bipush (v := 16) hC dX16_moves_46 rfl ?_
        refine hr_iload_n hC dX16_moves_48 rfl ?_
        refine hr_imul hC dX16_moves_49 ?_
        refine hr_iload hC dX16_moves_50 rfl ?_
        refine hr_iadd hC dX16_moves_52 ?_
        refine hr_aload_n hC dX16_moves_53 rfl ?_
        refine hr_gO 18 hC F17_0 rfl dX16_moves_54 q946 ?_
        refine hr_iload_n hC dX16_moves_57 rfl ?_
        refine hr_iconst (v := 4) hC dX16_moves_58 rfl ?_
        refine hr_iload hC dX16_moves_59 rfl ?_
        refine hr_imul hC dX16_moves_61 ?_
        refine hr_iadd hC dX16_moves_62 ?_
        obtain ⟨r9, e10, h⟩ := hx_bind h
        refine hs_callV0 hC 18 [_] _ dX16_moves_63 q2681 q2557 q2558 q331 q2559 np_X17 rfl OB_18 pd_X17_word (Nat.le_of_ble_eq_true rfl) hd1 (okX17_word l E A (d - 1)  (by omega)  e10 am1) rfl ?_
        obtain ⟨c13, h⟩ := hk_ok h
        obtain ⟨σ14, hσ14, h⟩ := hl_ok h
        refine hs_iast hC A17_7 c13 dX16_moves_66 ?_
        rw [← hσ14]
        obtain rfl := Option.some.inj h
        exact hr_sub _ rfl (J7)
      · rw [if_neg c4] at h
        refine hr_aload_n hC dX16_moves_14 rfl ?_
        refine hr_gO 18 hC F17_0 rfl dX16_moves_15 q946 ?_
        refine hr_iload_n hC dX16_moves_18 rfl ?_
        refine hr_iconst (v := 4) hC dX16_moves_19 rfl ?_
        refine hr_iload hC dX16_moves_20 rfl ?_
        refine hr_imul hC dX16_moves_22 ?_
        refine hr_iadd hC dX16_moves_23 ?_
        refine hr_aload_n hC dX16_moves_24 rfl ?_
        refine hr_gA hC F17_7 rfl dX16_moves_25 q959 ?_
        refine hr_bipush (v := 16) hC dX16_moves_28 rfl ?_
        refine hr_iload_n hC dX16_moves_30 rfl ?_
        refine hr_imul hC dX16_moves_31 ?_
        refine hr_iload hC dX16_moves_32 rfl ?_
        refine hr_iadd hC dX16_moves_34 ?_
        obtain ⟨c15, h⟩ := hk_ok h
        refine hs_iald hC A17_7 c15 dX16_moves_35 ?_
        obtain ⟨r16, e17, h⟩ := hx_bind h
        refine hs_callV0 hC 18 [_, _] _ dX16_moves_36 q2483 q2343 q2344 q331 q2345 np_X17 rfl OB_18 pd_X17_write (Nat.le_of_ble_eq_true rfl) hd1 (okX17_write l E A (d - 1)  (by omega)  e17 am1) rfl ?_
        refine hr_goto hC 67 dX16_moves_39 (by decide) ?_
        obtain rfl := Option.some.inj h
        exact hr_sub _ rfl (J7)
set_option maxRecDepth 20000 in
set_option maxHeartbeats 4000000 in
theorem okX16_moves (l : Launch) (E : hc_E) (A : Nat → Prop) (d : Nat) (n : Nat) (hD : 2 ≤ d) {x1 : Int32} {x2 : Int32} {x3 : Int32} {x4 : Int32} {σ : hc_St} {r : (Int32 × hc_St)} (h : fm_X16_moves n x1 x2 x3 x4 σ = some r) (am : Nat → Nat → Nat) : hc_M l hc_V0 yX16_moves (ws_ yX16_moves cX16_moves 6 (some .int)) d E A [.ref (E.2.1 17), .int x1, .int x2, .int x3, .int x4] am [] σ (.inl (some (.int r.1))) r.2 := by
  have hd1 : 1 ≤ d := by omega
  refine hc_enter2 (own := RX16) [(0, .ref (E.2.1 17)), (1, .int x1), (2, .int x2), (3, .int x3), (4, .int x4)] pl_X16 rfl hc_V0_st hc_G0_nd rfl (Nat.le_of_ble_eq_true rfl) (fun X hC hem => ?_)
  unfold fm_X16_moves at h
  refine hr_iconst (v := 0) hC dX16_moves_0 rfl ?_
  refine hr_istore hC dX16_moves_1 (by decide) ?_
  obtain ⟨r20, e21, h⟩ := hx_bind h
  refine hr_sub _ rfl (ll_X16_moves_3 n hD hem hC n _ _ _ _ _ _ _ am e21 ?_)
  refine hr_iconst (v := (-1)) hC dX16_moves_73 rfl ?_
  obtain rfl := Option.some.inj h
  exact hr_iret hC dX16_moves_74
/-- HomeCompiler$Host.serve(II)I -/
def fm_X16_serve (n : Nat) (x1 : Int32) (x2 : Int32) (σ : hc_St) : Option (Int32 × hc_St) := if x1 = 0 then (hl (pI σ 17 8 x2) fun σ1 => some (0, σ1)) else if x1 = 1 then (Option.bind (fm_X16_write x2 σ) fun r2 => some ((-1), r2)) else if x1 = 2 then (Option.bind (fm_X16_write x2 σ) fun r6 => hk (inb 11 (gL r6 20 3)) <| Option.bind (fm_X16_write ((gC r6 20 3 11)) r6) fun r11 => some ((-1), r11)) else if x1 = 3 then (Option.bind (fm_X16_takes n σ) fun r15 => some (r15.1, r15.2)) else if x1 = 4 then (hl (α := Int32) ((if (gI σ 17 6) ≤ 0 then 0 else 1)) fun v21 => Option.bind (fm_X16_answers v21 σ) fun r22 => some (r22.1, r22.2)) else if x1 = 5 then (Option.bind (fm_X16_answers ((-1)) σ) fun r29 => some (r29.1, r29.2)) else if x1 = 6 then (Option.bind (fm_X16_answers ((-1)) σ) fun r33 => some (r33.1, r33.2)) else if x1 = 7 then (Option.bind (α := hc_St × Int32) (if x2 < 0 then (some (σ, 2)) else (if x2 < 8 then (hk (inb 11 (gL σ 20 3)) <| hk (inb 12 (gL σ 20 3)) <| hl (α := Int32) ((if x1 = 7 then 1 else 0)) fun v50 => Option.bind (fm_X16_moves n x2 ((gC σ 20 3 11)) ((jmin 16 ((gC σ 20 3 12)))) v50 σ) fun r51 => some (r51.2, r51.1)) else (some (σ, 2)))) fun r39 => some (r39.2, r39.1)) else if x1 = 8 then (Option.bind (α := hc_St × Int32) (if x2 < 0 then (some (σ, 2)) else (if x2 < 8 then (hk (inb 11 (gL σ 20 3)) <| hk (inb 12 (gL σ 20 3)) <| hl (α := Int32) ((if x1 = 7 then 1 else 0)) fun v71 => Option.bind (fm_X16_moves n x2 ((gC σ 20 3 11)) ((jmin 16 ((gC σ 20 3 12)))) v71 σ) fun r72 => some (r72.2, r72.1)) else (some (σ, 2)))) fun r60 => some (r60.2, r60.1)) else if x1 = 9 then (hl (pI σ 17 8 x2) fun σ79 => some (1, σ79)) else (some ((((2 + x1)) - 16), σ))
set_option maxRecDepth 20000 in
set_option maxHeartbeats 4000000 in
theorem okX16_serve (l : Launch) (E : hc_E) (A : Nat → Prop) (d : Nat) (n : Nat) (hD : 3 ≤ d) {x1 : Int32} {x2 : Int32} {σ : hc_St} {r : (Int32 × hc_St)} (h : fm_X16_serve n x1 x2 σ = some r) (am : Nat → Nat → Nat) : hc_M l hc_V0 yX16_serve (ws_ yX16_serve cX16_serve 3 (some .int)) d E A [.ref (E.2.1 17), .int x1, .int x2] am [] σ (.inl (some (.int r.1))) r.2 := by
  have hd1 : 1 ≤ d := by omega
  refine hc_enter2 (own := RX16) [(0, .ref (E.2.1 17)), (1, .int x1), (2, .int x2)] pl_X16 rfl hc_V0_st hc_G0_nd rfl (Nat.le_of_ble_eq_true rfl) (fun X hC hem => ?_)
  unfold fm_X16_serve at h
  refine hr_iload_n hC dX16_serve_0 rfl ?_
  by_cases c80 : x1 = 0
  · rw [if_pos c80] at h
    refine hr_tableIn hC 56 dX16_serve_1 (by rw [c80] <;> decide) (by rw [c80] <;> decide) (by rw [c80] <;> rfl) (by decide) ?_
    refine hr_aload_n hC dX16_serve_56 rfl ?_
    refine hr_iload_n hC dX16_serve_57 rfl ?_
    obtain ⟨σ1, hσ1, h⟩ := hl_ok h
    refine hr_pI hC F17_8 PX16_8 dX16_serve_58 q961 ?_
    rw [← hσ1]
    refine hr_iconst (v := 0) hC dX16_serve_61 rfl ?_
    obtain rfl := Option.some.inj h
    exact hr_iret hC dX16_serve_62
  rw [if_neg c80] at h
  by_cases c81 : x1 = 1
  · rw [if_pos c81] at h
    refine hr_tableIn hC 63 dX16_serve_1 (by rw [c81] <;> decide) (by rw [c81] <;> decide) (by rw [c81] <;> rfl) (by decide) ?_
    refine hr_aload_n hC dX16_serve_63 rfl ?_
    refine hr_iload_n hC dX16_serve_64 rfl ?_
    obtain ⟨r2, e3, h⟩ := hx_bind h
    refine hs_callV0 hC 17 [_] _ dX16_serve_65 q2662 q2664 qs169 q330 q2665 np_X16 rfl OB_17 pd_X16_write (Nat.le_of_ble_eq_true rfl) hd1 (okX16_write l E A (d - 1)  (by omega)  e3 am) rfl ?_
    refine hr_iconst (v := (-1)) hC dX16_serve_68 rfl ?_
    obtain rfl := Option.some.inj h
    exact hr_iret hC dX16_serve_69
  rw [if_neg c81] at h
  by_cases c82 : x1 = 2
  · rw [if_pos c82] at h
    refine hr_tableIn hC 70 dX16_serve_1 (by rw [c82] <;> decide) (by rw [c82] <;> decide) (by rw [c82] <;> rfl) (by decide) ?_
    refine hr_aload_n hC dX16_serve_70 rfl ?_
    refine hr_iload_n hC dX16_serve_71 rfl ?_
    obtain ⟨r6, e7, h⟩ := hx_bind h
    refine hs_callV0 hC 17 [_] _ dX16_serve_72 q2662 q2664 qs169 q330 q2665 np_X16 rfl OB_17 pd_X16_write (Nat.le_of_ble_eq_true rfl) hd1 (okX16_write l E A (d - 1)  (by omega)  e7 am) rfl ?_
    refine hr_aload_n hC dX16_serve_75 rfl ?_
    refine hr_aload_n hC dX16_serve_76 rfl ?_
    refine hr_gO 20 hC F17_2 rfl dX16_serve_77 q949 ?_
    refine hr_gAN hC F20_3 rfl dX16_serve_80 (nl_9 hC.2.2.2.2.2.2.2.2.1) ?_
    refine hr_bipush (v := 11) hC dX16_serve_83 rfl ?_
    obtain ⟨c10, h⟩ := hk_ok h
    refine hs_iald hC A20_3 c10 dX16_serve_85 ?_
    obtain ⟨r11, e12, h⟩ := hx_bind h
    refine hs_callV0 hC 17 [_] _ dX16_serve_86 q2662 q2664 qs169 q330 q2665 np_X16 rfl OB_17 pd_X16_write (Nat.le_of_ble_eq_true rfl) hd1 (okX16_write l E A (d - 1)  (by omega)  e12 am) rfl ?_
    refine hr_iconst (v := (-1)) hC dX16_serve_89 rfl ?_
    obtain rfl := Option.some.inj h
    exact hr_iret hC dX16_serve_90
  rw [if_neg c82] at h
  by_cases c83 : x1 = 3
  · rw [if_pos c83] at h
    refine hr_tableIn hC 91 dX16_serve_1 (by rw [c83] <;> decide) (by rw [c83] <;> decide) (by rw [c83] <;> rfl) (by decide) ?_
    refine hr_aload_n hC dX16_serve_91 rfl ?_
    obtain ⟨r15, e16, h⟩ := hx_bind h
    refine hs_callV0 hC 17 [] _ dX16_serve_92 q2666 q2668 qs170 q330 q2669 np_X16 rfl OB_17 pd_X16_takes (Nat.le_of_ble_eq_true rfl) hd1 (okX16_takes l E A (d - 1) n (by omega)  e16 am) rfl ?_
    obtain rfl := Option.some.inj h
    exact hr_iret hC dX16_serve_95
  rw [if_neg c83] at h
  by_cases c84 : x1 = 4
  · rw [if_pos c84] at h
    refine hr_tableIn hC 96 dX16_serve_1 (by rw [c84] <;> decide) (by rw [c84] <;> decide) (by rw [c84] <;> rfl) (by decide) ?_
    refine hr_aload_n hC dX16_serve_96 rfl ?_
    refine hr_aload_n hC dX16_serve_97 rfl ?_
    refine hr_gI hC F17_6 dX16_serve_98 q957 ?_
    obtain ⟨v21, hv21, h⟩ := hl_ok h
    have J26 : ∀ w27 : Int32, (if (gI σ 17 6) ≤ 0 then 0 else 1) = w27 → hc_At hc_V0 E 3 X 109 [] [.int w27, .ref (E.2.1 17)] σ am [] := by
      intro w27 hw27
      obtain rfl := hv21.trans hw27
      obtain ⟨r22, e23, h⟩ := hx_bind h
      refine hs_callV0 hC 17 [_] _ dX16_serve_109 q2670 q2672 qs171 q330 q2673 np_X16 rfl OB_17 pd_X16_answers (Nat.le_of_ble_eq_true rfl) hd1 (okX16_answers l E A (d - 1)  (by omega)  e23 am) rfl ?_
      obtain rfl := Option.some.inj h
      exact hr_iret hC dX16_serve_112
    refine hr_if_le (x := _) hC 108 dX16_serve_101 (by decide) (fun c28 => ?_) (fun c28 => ?_)
    · refine hr_iconst (v := 0) hC dX16_serve_108 rfl ?_
      exact hr_sub _ rfl (J26 _ (by first | (rw [if_pos c28]; done) | (simp only [if_pos c28]; done) | rfl))
    · refine hr_iconst (v := 1) hC dX16_serve_104 rfl ?_
      refine hr_goto hC 109 dX16_serve_105 (by decide) ?_
      exact hr_sub _ rfl (J26 _ (by first | (rw [if_neg c28]; done) | (simp only [if_neg c28]; done) | rfl))
  rw [if_neg c84] at h
  by_cases c85 : x1 = 5
  · rw [if_pos c85] at h
    refine hr_tableIn hC 113 dX16_serve_1 (by rw [c85] <;> decide) (by rw [c85] <;> decide) (by rw [c85] <;> rfl) (by decide) ?_
    refine hr_aload_n hC dX16_serve_113 rfl ?_
    refine hr_iconst (v := (-1)) hC dX16_serve_114 rfl ?_
    obtain ⟨r29, e30, h⟩ := hx_bind h
    refine hs_callV0 hC 17 [_] _ dX16_serve_115 q2670 q2672 qs171 q330 q2673 np_X16 rfl OB_17 pd_X16_answers (Nat.le_of_ble_eq_true rfl) hd1 (okX16_answers l E A (d - 1)  (by omega)  e30 am) rfl ?_
    obtain rfl := Option.some.inj h
    exact hr_iret hC dX16_serve_118
  rw [if_neg c85] at h
  by_cases c86 : x1 = 6
  · rw [if_pos c86] at h
    refine hr_tableIn hC 113 dX16_serve_1 (by rw [c86] <;> decide) (by rw [c86] <;> decide) (by rw [c86] <;> rfl) (by decide) ?_
    refine hr_aload_n hC dX16_serve_113 rfl ?_
    refine hr_iconst (v := (-1)) hC dX16_serve_114 rfl ?_
    obtain ⟨r33, e34, h⟩ := hx_bind h
    refine hs_callV0 hC 17 [_] _ dX16_serve_115 q2670 q2672 qs171 q330 q2673 np_X16 rfl OB_17 pd_X16_answers (Nat.le_of_ble_eq_true rfl) hd1 (okX16_answers l E A (d - 1)  (by omega)  e34 am) rfl ?_
    obtain rfl := Option.some.inj h
    exact hr_iret hC dX16_serve_118
  rw [if_neg c86] at h
  by_cases c87 : x1 = 7
  · rw [if_pos c87] at h
    refine hr_tableIn hC 119 dX16_serve_1 (by rw [c87] <;> decide) (by rw [c87] <;> decide) (by rw [c87] <;> rfl) (by decide) ?_
    refine hr_iload_n hC dX16_serve_119 rfl ?_
    obtain ⟨r39, e40, h⟩ := hx_bind h
    have J41 : hc_At hc_V0 E 3 X 174 [] [.int r39.2] r39.1 am [] := by
      obtain rfl := Option.some.inj h
      exact hr_iret hC dX16_serve_174
    clear h
    have h := e40
    refine hr_if_lt (x := _) hC 129 dX16_serve_120 (by decide) (fun c38 => ?_) (fun c38 => ?_)
    · rw [if_pos c38] at h
      refine hr_iconst (v := 2) hC dX16_serve_129 rfl ?_
      refine hr_goto hC 174 dX16_serve_130 (by decide) ?_
      obtain rfl := Option.some.inj h
      exact hr_sub _ rfl (J41)
    · rw [if_neg c38] at h
      refine hr_iload_n hC dX16_serve_123 rfl ?_
      refine hr_bipush (v := 8) hC dX16_serve_124 rfl ?_
      refine hr_icmp_lt (x := _) hC 133 dX16_serve_126 (by decide) (fun c44 => ?_) (fun c44 => ?_)
      · rw [if_pos c44] at h
        refine hr_aload_n hC dX16_serve_133 rfl ?_
        refine hr_iload_n hC dX16_serve_134 rfl ?_
        refine hr_aload_n hC dX16_serve_135 rfl ?_
        refine hr_gO 20 hC F17_2 rfl dX16_serve_136 q949 ?_
        refine hr_gAN hC F20_3 rfl dX16_serve_139 (nl_9 hC.2.2.2.2.2.2.2.2.1) ?_
        refine hr_bipush (v := 11) hC dX16_serve_142 rfl ?_
        obtain ⟨c45, h⟩ := hk_ok h
        refine hs_iald hC A20_3 c45 dX16_serve_144 ?_
        refine hr_bipush (v := 16) hC dX16_serve_145 rfl ?_
        refine hr_aload_n hC dX16_serve_147 rfl ?_
        refine hr_gO 20 hC F17_2 rfl dX16_serve_148 q949 ?_
        refine hr_gAN hC F20_3 rfl dX16_serve_151 (nl_9 hC.2.2.2.2.2.2.2.2.1) ?_
        refine hr_bipush (v := 12) hC dX16_serve_154 rfl ?_
        obtain ⟨c46, h⟩ := hk_ok h
        refine hs_iald hC A20_3 c46 dX16_serve_156 ?_
        refine hr_min hC dX16_serve_157 q2674 hd1 (Nat.le_of_ble_eq_true rfl) ?_
        refine hr_iload_n hC dX16_serve_160 rfl ?_
        refine hr_bipush (v := 7) hC dX16_serve_161 rfl ?_
        obtain ⟨v50, hv50, h⟩ := hl_ok h
        have J55 : ∀ w56 : Int32, (if x1 = 7 then 1 else 0) = w56 → hc_At hc_V0 E 3 X 171 [] [.int w56, .int (jmin 16 ((gC σ 20 3 12))), .int (gC σ 20 3 11), .int x2, .ref (E.2.1 17)] σ am [] := by
          intro w56 hw56
          obtain rfl := hv50.trans hw56
          obtain ⟨r51, e52, h⟩ := hx_bind h
          refine hs_callV0 hC 17 [_, _, _, _] _ dX16_serve_171 q2677 q2679 qs172 q330 q2680 np_X16 rfl OB_17 pd_X16_moves (Nat.le_of_ble_eq_true rfl) hd1 (okX16_moves l E A (d - 1) n (by omega)  e52 am) rfl ?_
          obtain rfl := Option.some.inj h
          exact hr_sub _ rfl (J41)
        refine hr_icmp_ne (x := _) hC 170 dX16_serve_163 (by decide) (fun c57 => ?_) (fun c57 => ?_)
        · refine hr_iconst (v := 0) hC dX16_serve_170 rfl ?_
          exact hr_sub _ rfl (J55 _ (by first | (rw [if_neg c57]; done) | (simp only [if_neg c57]; done) | rfl))
        · refine hr_iconst (v := 1) hC dX16_serve_166 rfl ?_
          refine hr_goto hC 171 dX16_serve_167 (by decide) ?_
          exact hr_sub _ rfl (J55 _ (by first | (rw [if_pos c57]; done) | (simp only [if_pos c57]; done) | rfl))
      · rw [if_neg c44] at h
        refine hr_iconst (v := 2) hC dX16_serve_129 rfl ?_
        refine hr_goto hC 174 dX16_serve_130 (by decide) ?_
        obtain rfl := Option.some.inj h
        exact hr_sub _ rfl (J41)
  rw [if_neg c87] at h
  by_cases c88 : x1 = 8
  · rw [if_pos c88] at h
    refine hr_tableIn hC 119 dX16_serve_1 (by rw [c88] <;> decide) (by rw [c88] <;> decide) (by rw [c88] <;> rfl) (by decide) ?_
    refine hr_iload_n hC dX16_serve_119 rfl ?_
    obtain ⟨r60, e61, h⟩ := hx_bind h
    have J62 : hc_At hc_V0 E 3 X 174 [] [.int r60.2] r60.1 am [] := by
      obtain rfl := Option.some.inj h
      exact hr_iret hC dX16_serve_174
    clear h
    have h := e61
    refine hr_if_lt (x := _) hC 129 dX16_serve_120 (by decide) (fun c59 => ?_) (fun c59 => ?_)
    · rw [if_pos c59] at h
      refine hr_iconst (v := 2) hC dX16_serve_129 rfl ?_
      refine hr_goto hC 174 dX16_serve_130 (by decide) ?_
      obtain rfl := Option.some.inj h
      exact hr_sub _ rfl (J62)
    · rw [if_neg c59] at h
      refine hr_iload_n hC dX16_serve_123 rfl ?_
      refine hr_bipush (v := 8) hC dX16_serve_124 rfl ?_
      refine hr_icmp_lt (x := _) hC 133 dX16_serve_126 (by decide) (fun c65 => ?_) (fun c65 => ?_)
      · rw [if_pos c65] at h
        refine hr_aload_n hC dX16_serve_133 rfl ?_
        refine hr_iload_n hC dX16_serve_134 rfl ?_
        refine hr_aload_n hC dX16_serve_135 rfl ?_
        refine hr_gO 20 hC F17_2 rfl dX16_serve_136 q949 ?_
        refine hr_gAN hC F20_3 rfl dX16_serve_139 (nl_9 hC.2.2.2.2.2.2.2.2.1) ?_
        refine hr_bipush (v := 11) hC dX16_serve_142 rfl ?_
        obtain ⟨c66, h⟩ := hk_ok h
        refine hs_iald hC A20_3 c66 dX16_serve_144 ?_
        refine hr_bipush (v := 16) hC dX16_serve_145 rfl ?_
        refine hr_aload_n hC dX16_serve_147 rfl ?_
        refine hr_gO 20 hC F17_2 rfl dX16_serve_148 q949 ?_
        refine hr_gAN hC F20_3 rfl dX16_serve_151 (nl_9 hC.2.2.2.2.2.2.2.2.1) ?_
        refine hr_bipush (v := 12) hC dX16_serve_154 rfl ?_
        obtain ⟨c67, h⟩ := hk_ok h
        refine hs_iald hC A20_3 c67 dX16_serve_156 ?_
        refine hr_min hC dX16_serve_157 q2674 hd1 (Nat.le_of_ble_eq_true rfl) ?_
        refine hr_iload_n hC dX16_serve_160 rfl ?_
        refine hr_bipush (v := 7) hC dX16_serve_161 rfl ?_
        obtain ⟨v71, hv71, h⟩ := hl_ok h
        have J76 : ∀ w77 : Int32, (if x1 = 7 then 1 else 0) = w77 → hc_At hc_V0 E 3 X 171 [] [.int w77, .int (jmin 16 ((gC σ 20 3 12))), .int (gC σ 20 3 11), .int x2, .ref (E.2.1 17)] σ am [] := by
          intro w77 hw77
          obtain rfl := hv71.trans hw77
          obtain ⟨r72, e73, h⟩ := hx_bind h
          refine hs_callV0 hC 17 [_, _, _, _] _ dX16_serve_171 q2677 q2679 qs172 q330 q2680 np_X16 rfl OB_17 pd_X16_moves (Nat.le_of_ble_eq_true rfl) hd1 (okX16_moves l E A (d - 1) n (by omega)  e73 am) rfl ?_
          obtain rfl := Option.some.inj h
          exact hr_sub _ rfl (J62)
        refine hr_icmp_ne (x := _) hC 170 dX16_serve_163 (by decide) (fun c78 => ?_) (fun c78 => ?_)
        · refine hr_iconst (v := 0) hC dX16_serve_170 rfl ?_
          exact hr_sub _ rfl (J76 _ (by first | (rw [if_neg c78]; done) | (simp only [if_neg c78]; done) | rfl))
        · refine hr_iconst (v := 1) hC dX16_serve_166 rfl ?_
          refine hr_goto hC 171 dX16_serve_167 (by decide) ?_
          exact hr_sub _ rfl (J76 _ (by first | (rw [if_pos c78]; done) | (simp only [if_pos c78]; done) | rfl))
      · rw [if_neg c65] at h
        refine hr_iconst (v := 2) hC dX16_serve_129 rfl ?_
        refine hr_goto hC 174 dX16_serve_130 (by decide) ?_
        obtain rfl := Option.some.inj h
        exact hr_sub _ rfl (J62)
  rw [if_neg c88] at h
  by_cases c89 : x1 = 9
  · rw [if_pos c89] at h
    refine hr_tableIn hC 175 dX16_serve_1 (by rw [c89] <;> decide) (by rw [c89] <;> decide) (by rw [c89] <;> rfl) (by decide) ?_
    refine hr_aload_n hC dX16_serve_175 rfl ?_
    refine hr_iload_n hC dX16_serve_176 rfl ?_
    obtain ⟨σ79, hσ79, h⟩ := hl_ok h
    refine hr_pI hC F17_8 PX16_8 dX16_serve_177 q961 ?_
    rw [← hσ79]
    refine hr_iconst (v := 1) hC dX16_serve_180 rfl ?_
    obtain rfl := Option.some.inj h
    exact hr_iret hC dX16_serve_181
  rw [if_neg c89] at h
  refine hr_tableD hC 182 dX16_serve_1 (ks := [0, 1, 2, 3, 4, 5, 6, 7, 8, 9]) (hc_l1 (hc_ne c80 rfl) (hc_l1 (hc_ne c81 rfl) (hc_l1 (hc_ne c82 rfl) (hc_l1 (hc_ne c83 rfl) (hc_l1 (hc_ne c84 rfl) (hc_l1 (hc_ne c85 rfl) (hc_l1 (hc_ne c86 rfl) (hc_l1 (hc_ne c87 rfl) (hc_l1 (hc_ne c88 rfl) (hc_l1 (hc_ne c89 rfl) hc_l0)))))))))) (by decide) (by decide) (by decide) ?_
  refine hr_iconst (v := 2) hC dX16_serve_182 rfl ?_
  refine hr_iload_n hC dX16_serve_183 rfl ?_
  refine hr_iadd hC dX16_serve_184 ?_
  refine hr_bipush (v := 16) hC dX16_serve_185 rfl ?_
  refine hr_isub hC dX16_serve_187 ?_
  obtain rfl := Option.some.inj h
  exact hr_iret hC dX16_serve_188
def lp_X16_run_18 (n : Nat) : Nat → Int32 → Int32 → Int32 → Int32 → Int32 → hc_St → Option (hc_St)
  | 0, _, _, _, _, _, _ => none
  | m + 1, y1, y2, y3, y4, y5, σ => if 32 ≤ y5 then (some (σ)) else (hk (inb y5 (gL σ 20 3)) <| hl (pC σ 20 3 y5 0) fun σ9 => lp_X16_run_18 n m y1 y2 y3 y4 ((y5 + 1)) σ9)
def lp_X16_run_105 (n : Nat) : Nat → Int32 → hc_St → Option (hc_St × Int32)
  | 0, _, _ => none
  | m + 1, y5, σ => if y5 = (-1) then (Option.bind (fm_X19_step n σ) fun r27 => if r27.1 = 2 then (hk (inb 17 (gL r27.2 20 3)) <| hk (inb 10 (gL r27.2 20 3)) <| Option.bind (fm_X16_serve n ((gC r27.2 20 3 17)) ((gC r27.2 20 3 10)) r27.2) fun r35 => Option.bind (fm_X18_get 3 r35.2) fun r39 => hl (pI r35.2 20 4 ((r39 + 4))) fun σ43 => hl (pI σ43 20 5 0) fun σ44 => lp_X16_run_105 n m r35.1 σ44) else (lp_X16_run_105 n m y5 r27.2)) else (some (σ, y5))
/-- HomeCompiler$Host.run(IIII)I -/
def fm_X16_run (n : Nat) (x1 : Int32) (x2 : Int32) (x3 : Int32) (x4 : Int32) (σ : hc_St) : Option (Int32 × hc_St) := Option.bind (fm_X17_write 0 115 σ) fun r1 => hl (pI r1 17 4 0) fun σ5 => Option.bind (lp_X16_run_18 n n x1 x2 x3 x4 1 σ5) fun r10 => hk (inb 2 (gL r10 20 3)) <| hl (pC r10 20 3 2 1048576) fun σ16 => hk (inb 10 (gL σ16 20 3)) <| hl (pC σ16 20 3 10 x2) fun σ18 => hk (inb 27 (gL σ18 20 3)) <| hl (pC σ18 20 3 27 x3) fun σ20 => hk (inb 4 (gL σ20 20 3)) <| hl (pC σ20 20 3 4 x4) fun σ22 => hl (pI σ22 20 4 x1) fun σ23 => hl (pI σ23 20 5 0) fun σ24 => Option.bind (lp_X16_run_105 n n ((-1)) σ24) fun r45 => some (r45.2, r45.1)
set_option maxRecDepth 20000 in
set_option maxHeartbeats 4000000 in
theorem ll_X16_run_18 {l : Launch} {E : hc_E} {A : Nat → Prop} {am : Nat → Nat → Nat} {d : Nat} {X : hc_X} (n : Nat) (hD : 9 ≤ d) (hem : X.2.2.2.2.2.2.2.2.2.1.exceptionTable.isEmpty = true) {oc : hc_Oc} {σe : hc_St} (hC : hc_C hc_V0 E cX16_run 6 RX16 (some .int) d oc σe (l, A, am, []) X) : ∀ (m : Nat) (σ : hc_St) (y1 : Int32) (y2 : Int32) (y3 : Int32) (y4 : Int32) (y5 : Int32) (rl : hc_St) (am1 : Nat → Nat → Nat), lp_X16_run_18 n m y1 y2 y3 y4 y5 σ = some rl → (hc_At hc_V0 E 6 X 42 [(0, .ref (E.2.1 17)), (1, .int y1), (2, .int y2), (3, .int y3), (4, .int y4)] [] rl am1 []) → hc_At hc_V0 E 6 X 18 [(0, .ref (E.2.1 17)), (1, .int y1), (2, .int y2), (3, .int y3), (4, .int y4), (5, .int y5)] [] σ am1 [] := by
  have hd1 : 1 ≤ d := by omega
  have hd8 : 9 ≤ d := by omega
  intro m
  induction m with
  | zero =>
    intro σ y1 y2 y3 y4 y5 rl am1 h
    cases h
  | succ m ih =>
    intro σ y1 y2 y3 y4 y5 rl am1 h JX
    rw [lp_X16_run_18] at h
    refine hr_iload hC dX16_run_18 rfl ?_
    refine hr_bipush (v := 32) hC dX16_run_20 rfl ?_
    refine hr_icmp_ge (x := _) hC 42 dX16_run_22 (by decide) (fun c7 => ?_) (fun c7 => ?_)
    · rw [if_pos c7] at h
      obtain rfl := Option.some.inj h
      exact hr_sub _ rfl (JX)
    · rw [if_neg c7] at h
      refine hr_aload_n hC dX16_run_25 rfl ?_
      refine hr_gO 20 hC F17_2 rfl dX16_run_26 q949 ?_
      refine hr_gAN hC F20_3 rfl dX16_run_29 (nl_9 hC.2.2.2.2.2.2.2.2.1) ?_
      refine hr_iload hC dX16_run_32 rfl ?_
      refine hr_iconst (v := 0) hC dX16_run_34 rfl ?_
      obtain ⟨c8, h⟩ := hk_ok h
      obtain ⟨σ9, hσ9, h⟩ := hl_ok h
      refine hs_iast hC A20_3 c8 dX16_run_35 ?_
      rw [← hσ9]
      refine hr_iinc (v := y5 + 1) hC dX16_run_36 rfl rfl (by decide) ?_
      refine hr_goto hC 18 dX16_run_39 (by decide) ?_
      exact hr_sub _ rfl (ih _ _ _ _ _ _ _ am1 h JX)
set_option maxRecDepth 20000 in
set_option maxHeartbeats 4000000 in
theorem ll_X16_run_105 {l : Launch} {E : hc_E} {A : Nat → Prop} {am : Nat → Nat → Nat} {d : Nat} {X : hc_X} (n : Nat) (hD : 9 ≤ d) (hem : X.2.2.2.2.2.2.2.2.2.1.exceptionTable.isEmpty = true) {oc : hc_Oc} {σe : hc_St} (hC : hc_C hc_V0 E cX16_run 6 RX16 (some .int) d oc σe (l, A, am, []) X) : ∀ (m : Nat) (σ : hc_St) (y5 : Int32) (rl : hc_St × Int32) (am1 : Nat → Nat → Nat), lp_X16_run_105 n m y5 σ = some rl → (hc_At hc_V0 E 6 X 176 [(5, .int rl.2)] [] rl.1 am1 []) → hc_At hc_V0 E 6 X 105 [(0, .ref (E.2.1 17)), (5, .int y5)] [] σ am1 [] := by
  have hd1 : 1 ≤ d := by omega
  have hd8 : 9 ≤ d := by omega
  intro m
  induction m with
  | zero =>
    intro σ y5 rl am1 h
    cases h
  | succ m ih =>
    intro σ y5 rl am1 h JX
    rw [lp_X16_run_105] at h
    refine hr_iload hC dX16_run_105 rfl ?_
    refine hr_iconst (v := (-1)) hC dX16_run_107 rfl ?_
    refine hr_icmp_ne (x := _) hC 176 dX16_run_108 (by decide) (fun c26 => ?_) (fun c26 => ?_)
    · rw [if_neg c26] at h
      obtain rfl := Option.some.inj h
      exact hr_sub _ rfl (JX)
    · rw [if_pos c26] at h
      refine hr_aload_n hC dX16_run_111 rfl ?_
      refine hr_gO 20 hC F17_2 rfl dX16_run_112 q949 ?_
      obtain ⟨r27, e28, h⟩ := hx_bind h
      refine hs_callV0 hC 20 [] _ dX16_run_115 q2485 q2486 q2487 q333 q2488 np_X19 rfl OB_20 pd_X19_step (Nat.le_of_ble_eq_true rfl) hd1 (okX19_step l E A (d - 1) n (by omega)  e28 am1) rfl ?_
      refine hr_iconst (v := 2) hC dX16_run_118 rfl ?_
      refine hr_icmp_ne (x := _) hC 105 dX16_run_119 (by decide) (fun c32 => ?_) (fun c32 => ?_)
      · rw [if_neg c32] at h
        exact hr_sub _ rfl (ih _ _ _ am1 h JX)
      · rw [if_pos c32] at h
        refine hr_aload_n hC dX16_run_122 rfl ?_
        refine hr_aload_n hC dX16_run_123 rfl ?_
        refine hr_gO 20 hC F17_2 rfl dX16_run_124 q949 ?_
        refine hr_gAN hC F20_3 rfl dX16_run_127 (nl_9 hC.2.2.2.2.2.2.2.2.1) ?_
        refine hr_bipush (v := 17) hC dX16_run_130 rfl ?_
        obtain ⟨c33, h⟩ := hk_ok h
        refine hs_iald hC A20_3 c33 dX16_run_132 ?_
        refine hr_aload_n hC dX16_run_133 rfl ?_
        refine hr_gO 20 hC F17_2 rfl dX16_run_134 q949 ?_
        refine hr_gAN hC F20_3 rfl dX16_run_137 (nl_9 hC.2.2.2.2.2.2.2.2.1) ?_
        refine hr_bipush (v := 10) hC dX16_run_140 rfl ?_
        obtain ⟨c34, h⟩ := hk_ok h
        refine hs_iald hC A20_3 c34 dX16_run_142 ?_
        obtain ⟨r35, e36, h⟩ := hx_bind h
        refine hs_callV0 hC 17 [_, _] _ dX16_run_143 q2658 q2660 qs168 q330 q2661 np_X16 rfl OB_17 pd_X16_serve (Nat.le_of_ble_eq_true rfl) hd1 (okX16_serve l E A (d - 1) n (by omega)  e36 am1) rfl ?_
        refine hr_istore hC dX16_run_146 (by decide) ?_
        refine hr_aload_n hC dX16_run_148 rfl ?_
        refine hr_gO 20 hC F17_2 rfl dX16_run_149 q949 ?_
        refine hr_aload_n hC dX16_run_152 rfl ?_
        refine hr_gO 19 hC F17_1 rfl dX16_run_153 q948 ?_
        refine hr_iconst (v := 3) hC dX16_run_156 rfl ?_
        obtain ⟨r39, e40, h⟩ := hx_bind h
        refine hs_callV0 hC 19 [_] _ dX16_run_157 q2682 q2608 q2609 q332 q2610 np_X18 rfl OB_19 pd_X18_get (Nat.le_of_ble_eq_true rfl) hd1 (okX18_get l E A (d - 1)  (by omega)  e40 am1) rfl ?_
        refine hr_iconst (v := 4) hC dX16_run_160 rfl ?_
        refine hr_iadd hC dX16_run_161 ?_
        obtain ⟨σ43, hσ43, h⟩ := hl_ok h
        refine hr_pIN hC F20_4 PX19_4 dX16_run_162 (nl_10 hC.2.2.2.2.2.2.2.2.1) ?_
        rw [← hσ43]
        refine hr_aload_n hC dX16_run_165 rfl ?_
        refine hr_gO 20 hC F17_2 rfl dX16_run_166 q949 ?_
        refine hr_iconst (v := 0) hC dX16_run_169 rfl ?_
        obtain ⟨σ44, hσ44, h⟩ := hl_ok h
        refine hr_pIN hC F20_5 PX19_5 dX16_run_170 (nl_11 hC.2.2.2.2.2.2.2.2.1) ?_
        rw [← hσ44]
        refine hr_goto hC 105 dX16_run_173 (by decide) ?_
        exact hr_sub _ rfl (ih _ _ _ am1 h JX)
set_option maxRecDepth 20000 in
set_option maxHeartbeats 4000000 in
theorem okX16_run (l : Launch) (E : hc_E) (A : Nat → Prop) (d : Nat) (n : Nat) (hD : 9 ≤ d) {x1 : Int32} {x2 : Int32} {x3 : Int32} {x4 : Int32} {σ : hc_St} {r : (Int32 × hc_St)} (h : fm_X16_run n x1 x2 x3 x4 σ = some r) (am : Nat → Nat → Nat) : hc_M l hc_V0 yX16_run (ws_ yX16_run cX16_run 6 (some .int)) d E A [.ref (E.2.1 17), .int x1, .int x2, .int x3, .int x4] am [] σ (.inl (some (.int r.1))) r.2 := by
  have hd1 : 1 ≤ d := by omega
  have hd8 : 9 ≤ d := by omega
  refine hc_enter2 (own := RX16) [(0, .ref (E.2.1 17)), (1, .int x1), (2, .int x2), (3, .int x3), (4, .int x4)] pl_X16 rfl hc_V0_st hc_G0_nd rfl (Nat.le_of_ble_eq_true rfl) (fun X hC hem => ?_)
  unfold fm_X16_run at h
  refine hr_aload_n hC dX16_run_0 rfl ?_
  refine hr_gO 18 hC F17_0 rfl dX16_run_1 q946 ?_
  refine hr_iconst (v := 0) hC dX16_run_4 rfl ?_
  refine hr_bipush (v := 115) hC dX16_run_5 rfl ?_
  obtain ⟨r1, e2, h⟩ := hx_bind h
  refine hs_callV0 hC 18 [_, _] _ dX16_run_7 q2483 q2343 q2344 q331 q2345 np_X17 rfl OB_18 pd_X17_write (Nat.le_of_ble_eq_true rfl) hd1 (okX17_write l E A (d - 1)  (by omega)  e2 am) rfl ?_
  refine hr_aload_n hC dX16_run_10 rfl ?_
  refine hr_iconst (v := 0) hC dX16_run_11 rfl ?_
  obtain ⟨σ5, hσ5, h⟩ := hl_ok h
  refine hr_pI hC F17_4 PX16_4 dX16_run_12 q953 ?_
  rw [← hσ5]
  refine hr_iconst (v := 1) hC dX16_run_15 rfl ?_
  refine hr_istore hC dX16_run_16 (by decide) ?_
  obtain ⟨r10, e11, h⟩ := hx_bind h
  refine hr_sub _ rfl (ll_X16_run_18 n hD hem hC n _ _ _ _ _ _ _ am e11 ?_)
  refine hr_aload_n hC dX16_run_42 rfl ?_
  refine hr_gO 20 hC F17_2 rfl dX16_run_43 q949 ?_
  refine hr_gAN hC F20_3 rfl dX16_run_46 (nl_9 hC.2.2.2.2.2.2.2.2.1) ?_
  refine hr_iconst (v := 2) hC dX16_run_49 rfl ?_
  refine hr_ldc hC dX16_run_50 q2484 ?_
  obtain ⟨c15, h⟩ := hk_ok h
  obtain ⟨σ16, hσ16, h⟩ := hl_ok h
  refine hs_iast hC A20_3 c15 dX16_run_52 ?_
  rw [← hσ16]
  refine hr_aload_n hC dX16_run_53 rfl ?_
  refine hr_gO 20 hC F17_2 rfl dX16_run_54 q949 ?_
  refine hr_gAN hC F20_3 rfl dX16_run_57 (nl_9 hC.2.2.2.2.2.2.2.2.1) ?_
  refine hr_bipush (v := 10) hC dX16_run_60 rfl ?_
  refine hr_iload_n hC dX16_run_62 rfl ?_
  obtain ⟨c17, h⟩ := hk_ok h
  obtain ⟨σ18, hσ18, h⟩ := hl_ok h
  refine hs_iast hC A20_3 c17 dX16_run_63 ?_
  rw [← hσ18]
  refine hr_aload_n hC dX16_run_64 rfl ?_
  refine hr_gO 20 hC F17_2 rfl dX16_run_65 q949 ?_
  refine hr_gAN hC F20_3 rfl dX16_run_68 (nl_9 hC.2.2.2.2.2.2.2.2.1) ?_
  refine hr_bipush (v := 27) hC dX16_run_71 rfl ?_
  refine hr_iload_n hC dX16_run_73 rfl ?_
  obtain ⟨c19, h⟩ := hk_ok h
  obtain ⟨σ20, hσ20, h⟩ := hl_ok h
  refine hs_iast hC A20_3 c19 dX16_run_74 ?_
  rw [← hσ20]
  refine hr_aload_n hC dX16_run_75 rfl ?_
  refine hr_gO 20 hC F17_2 rfl dX16_run_76 q949 ?_
  refine hr_gAN hC F20_3 rfl dX16_run_79 (nl_9 hC.2.2.2.2.2.2.2.2.1) ?_
  refine hr_iconst (v := 4) hC dX16_run_82 rfl ?_
  refine hr_iload hC dX16_run_83 rfl ?_
  obtain ⟨c21, h⟩ := hk_ok h
  obtain ⟨σ22, hσ22, h⟩ := hl_ok h
  refine hs_iast hC A20_3 c21 dX16_run_85 ?_
  rw [← hσ22]
  refine hr_aload_n hC dX16_run_86 rfl ?_
  refine hr_gO 20 hC F17_2 rfl dX16_run_87 q949 ?_
  refine hr_iload_n hC dX16_run_90 rfl ?_
  obtain ⟨σ23, hσ23, h⟩ := hl_ok h
  refine hr_pIN hC F20_4 PX19_4 dX16_run_91 (nl_10 hC.2.2.2.2.2.2.2.2.1) ?_
  rw [← hσ23]
  refine hr_aload_n hC dX16_run_94 rfl ?_
  refine hr_gO 20 hC F17_2 rfl dX16_run_95 q949 ?_
  refine hr_iconst (v := 0) hC dX16_run_98 rfl ?_
  obtain ⟨σ24, hσ24, h⟩ := hl_ok h
  refine hr_pIN hC F20_5 PX19_5 dX16_run_99 (nl_11 hC.2.2.2.2.2.2.2.2.1) ?_
  rw [← hσ24]
  refine hr_iconst (v := (-1)) hC dX16_run_102 rfl ?_
  refine hr_istore hC dX16_run_103 (by decide) ?_
  obtain ⟨r45, e46, h⟩ := hx_bind h
  refine hr_sub _ rfl (ll_X16_run_105 n hD hem hC n _ _ _ am e46 ?_)
  refine hr_iload hC dX16_run_176 rfl ?_
  obtain rfl := Option.some.inj h
  exact hr_iret hC dX16_run_178
/-- HomeCompiler.run(III)I -/
def fm_X1_run (n : Nat) (x1 : Int32) (x2 : Int32) (x3 : Int32) (σ : hc_St) : Option (Nat × Int32 × hc_St) := hl (α := Int32) ((if (gI σ 0 11) = (-1) then 0 else 1)) fun v3 => Option.bind (fm_X1_ready v3 σ) fun r4 => ht r4 <| hl (α := Int32) ((if x2 < 0 then 0 else (if 2000 < x2 then 0 else (if x3 < 0 then 0 else (if 1024 < x3 then 0 else 1))))) fun v11 => Option.bind (fm_X1_need v11 r4.2.2) fun r12 => ht r12 <| if (x2 + 10) ≤ (gI r12.2.2 0 17) then (hl (pI r12.2.2 0 17 ((((gI r12.2.2 0 17)) - ((x2 + 10))))) fun σ19 => Option.bind (fm_X1_begin n σ19) fun r20 => hl (pI r20 17 8 0) fun σ24 => hl (pI σ24 0 15 1) fun σ25 => Option.bind (fm_X16_run n ((gI σ25 0 13)) x1 x2 x3 σ25) fun r26 => hk (inb 27 (gL r26.2 20 3)) <| hl (pI r26.2 0 16 ((gC r26.2 20 3 27))) fun σ31 => some (0, r26.1, σ31)) else (hk (hxr r12.2.2) <| some (4, 0, pU r12.2.2 hxC hxS))
theorem fm_X1_need_st {x : Int32} {σ : hc_St} {r : Nat × Int32 × hc_St} (h : fm_X1_need x σ = some r) (z : r.1 = 0) : r.2.2 = σ := by
  unfold fm_X1_need at h
  split at h
  · obtain ⟨-, h⟩ := hk_ok h
    obtain rfl := Option.some.inj h
    cases z
  · obtain rfl := Option.some.inj h
    rfl
theorem fm_X1_ready_st {x : Int32} {σ : hc_St} {r : Nat × Int32 × hc_St} (h : fm_X1_ready x σ = some r) (z : r.1 = 0) : r.2.2 = σ := by
  unfold fm_X1_ready at h
  split at h
  · obtain ⟨-, h⟩ := hk_ok h
    obtain rfl := Option.some.inj h
    cases z
  · obtain rfl := Option.some.inj h
    rfl
set_option maxRecDepth 20000 in
set_option maxHeartbeats 4000000 in
theorem okX1_run (l : Launch) (E : hc_E) (A : Nat → Prop) (d : Nat) (n : Nat) (hD : 14 ≤ d) {x1 : Int32} {x2 : Int32} {x3 : Int32} {σ : hc_St} {r : (Nat × Int32 × hc_St)} (h : fm_X1_run n x1 x2 x3 σ = some r) (am : Nat → Nat → Nat) : hc_M l hc_V0 yX1_run (ws_ yX1_run cX1_run 5 (some .int)) d E A [.ref (E.2.1 0), .int x1, .int x2, .int x3] am [] σ (hc_ot (fun v => some (.int v)) r) r.2.2 := by
  have hd1 : 1 ≤ d := by omega
  have hd8 : 9 ≤ d := by omega
  have hd12 : 12 ≤ d := by omega
  refine hz_enter2 (own := RX1) [(0, .ref (E.2.1 0)), (1, .int x1), (2, .int x2), (3, .int x3)] pl_X1 rfl hc_V0_st hc_G0_nd rfl (Nat.le_of_ble_eq_true rfl) (fun X hC hem hP0 => ?_)
  have HX := fun z => hc_CX hC z
  unfold fm_X1_run at h
  refine hz_aload_n hC dX1_run_0 rfl ?_
  refine hz_gI hC F0_11 dX1_run_1 q1002 ?_
  refine hz_iconst (v := (-1)) hC dX1_run_4 rfl ?_
  obtain ⟨v3, hv3, h⟩ := hl_ok h
  have J39 : ∀ w40 : Int32, (if (gI σ 0 11) = (-1) then 0 else 1) = w40 → hc_Az hc_V0 E 5 X 13 [(0, .ref (E.2.1 0)), (1, .int x1), (2, .int x2), (3, .int x3)] [.int w40] σ am [] := by
    intro w40 hw40
    obtain rfl := hv3.trans hw40
    obtain ⟨r4, e5, h⟩ := hx_bind h
    by_cases z8 : r4.1 = 0
    · rw [ht_0 z8] at h
      refine hz_callS hC [_] _ dX1_run_13 q2378 q2379 q315 q2380 np_X1 rfl pd_X1_ready (Nat.le_of_ble_eq_true rfl) hd1 (hz_M0 (r := r4) (oknX1_ready l E A (d - 1)  (by omega)  e5 am) z8) rfl ?_
      refine hz_iload_n hC dX1_run_16 rfl ?_
      obtain ⟨v11, hv11, h⟩ := hl_ok h
      have J33 : ∀ w34 : Int32, (if x2 < 0 then 0 else (if 2000 < x2 then 0 else (if x3 < 0 then 0 else (if 1024 < x3 then 0 else 1)))) = w34 → hc_Az hc_V0 E 5 X 43 [(0, .ref (E.2.1 0)), (1, .int x1), (2, .int x2), (3, .int x3)] [.int w34] r4.2.2 am [] := by
        intro w34 hw34
        obtain rfl := hv11.trans hw34
        obtain ⟨r12, e13, h⟩ := hx_bind h
        by_cases z16 : r12.1 = 0
        · rw [ht_0 z16] at h
          refine hz_callS hC [_] _ dX1_run_43 q2409 q2410 q315 q2411 np_X1 rfl pd_X1_need (Nat.le_of_ble_eq_true rfl) hd1 (hz_M0 (r := r12) (oknX1_need l E A (d - 1)  (by omega)  e13 am) z16) rfl ?_
          refine hz_iload_n hC dX1_run_46 rfl ?_
          refine hz_bipush (v := 10) hC dX1_run_47 rfl ?_
          refine hz_iadd hC dX1_run_49 ?_
          refine hz_aload_n hC dX1_run_50 rfl ?_
          refine hz_gI hC F0_17 dX1_run_51 q1008 ?_
          refine hz_icmp_le (x := _) hC 65 dX1_run_54 (by decide) (fun c18 => ?_) (fun c18 => ?_)
          · rw [if_pos c18] at h
            refine hz_of ?_
            refine hr_aload_n hC dX1_run_65 rfl ?_
            refine hr_dup hC dX1_run_66 rfl ?_
            refine hr_gI hC F0_17 dX1_run_67 q1008 ?_
            refine hr_iload_n hC dX1_run_70 rfl ?_
            refine hr_bipush (v := 10) hC dX1_run_71 rfl ?_
            refine hr_iadd hC dX1_run_73 ?_
            refine hr_isub hC dX1_run_74 ?_
            obtain ⟨σ19, hσ19, h⟩ := hl_ok h
            refine hr_pI hC F0_17 PX1_17 dX1_run_75 q1008 ?_
            rw [← hσ19]
            refine hr_aload_n hC dX1_run_78 rfl ?_
            obtain ⟨r20, e21, h⟩ := hx_bind h
            refine hs_callV0 hC 0 [] _ dX1_run_79 q2459 q2461 qs155 q315 q2462 np_X1 rfl OB_0 pd_X1_begin (Nat.le_of_ble_eq_true rfl) hd1 (okX1_begin l E A (d - 1) n (by omega)  e21 am) rfl ?_
            refine hr_aload_n hC dX1_run_82 rfl ?_
            refine hr_gO 17 hC F0_9 rfl dX1_run_83 q1000 ?_
            refine hr_iconst (v := 0) hC dX1_run_86 rfl ?_
            obtain ⟨σ24, hσ24, h⟩ := hl_ok h
            refine hr_pIN hC F17_8 PX16_8 dX1_run_87 (nl_8 hC.2.2.2.2.2.2.2.2.1) ?_
            rw [← hσ24]
            refine hr_aload_n hC dX1_run_90 rfl ?_
            refine hr_iconst (v := 1) hC dX1_run_91 rfl ?_
            obtain ⟨σ25, hσ25, h⟩ := hl_ok h
            refine hr_pZ hC F0_15 PX1_15 (by decide) dX1_run_92 q1006 ?_
            rw [← hσ25]
            refine hr_aload_n hC dX1_run_95 rfl ?_
            refine hr_gO 17 hC F0_9 rfl dX1_run_96 q1000 ?_
            refine hr_aload_n hC dX1_run_99 rfl ?_
            refine hr_gI hC F0_13 dX1_run_100 q1004 ?_
            refine hr_iload_n hC dX1_run_103 rfl ?_
            refine hr_iload_n hC dX1_run_104 rfl ?_
            refine hr_iload_n hC dX1_run_105 rfl ?_
            obtain ⟨r26, e27, h⟩ := hx_bind h
            refine hs_callV0 hC 17 [_, _, _, _] _ dX1_run_106 q2479 q2480 q2481 q330 q2482 np_X16 rfl OB_17 pd_X16_run (Nat.le_of_ble_eq_true rfl) hd1 (okX16_run l E A (d - 1) n (by omega)  e27 am) rfl ?_
            refine hr_istore hC dX1_run_109 (by decide) ?_
            refine hr_aload_n hC dX1_run_111 rfl ?_
            refine hr_aload_n hC dX1_run_112 rfl ?_
            refine hr_gO 17 hC F0_9 rfl dX1_run_113 q1000 ?_
            refine hr_gON 20 hC F17_2 rfl dX1_run_116 (nl_2 hC.2.2.2.2.2.2.2.2.1) ?_
            refine hr_gAN hC F20_3 rfl dX1_run_119 (nl_0 hC.2.2.2.2.2.2.2.2.1) ?_
            refine hr_bipush (v := 27) hC dX1_run_122 rfl ?_
            obtain ⟨c30, h⟩ := hk_ok h
            refine hs_iald hC A20_3 c30 dX1_run_124 ?_
            obtain ⟨σ31, hσ31, h⟩ := hl_ok h
            refine hr_pI hC F0_16 PX1_16 dX1_run_125 q1007 ?_
            rw [← hσ31]
            refine hr_iload hC dX1_run_128 rfl ?_
            obtain rfl := Option.some.inj h
            exact hr_iret hC dX1_run_130
          · rw [if_neg c18] at h
            obtain ⟨c32, h⟩ := hk_ok h
            obtain rfl := Option.some.inj h
            have q1 := fm_X1_need_st e13 z16
            have q2 := fm_X1_ready_st e5 z8
            exact hz_throw4 (HX (Nat.succ_ne_zero _)) hem (by rw [q1, q2]; exact hP0) c32 dX1_run_57 dX1_run_60 dX1_run_61 dX1_run_64 q2454 q2455 hd12
        · rw [ht_1 z16] at h
          obtain rfl := Option.some.inj h
          exact hz_of (hs_callSx (HX z16) hem [_] _ dX1_run_43 q2409 q2410 q315 q2411 np_X1 rfl pd_X1_need (Nat.le_of_ble_eq_true rfl) hd1 (hc_M1 (r := r12) (okX1_need l E A (d - 1)  (by omega)  e13 am) z16) (hc_rb rfl) rfl)
      refine hz_if_lt (x := _) hC 42 dX1_run_17 (by decide) (fun c35 => ?_) (fun c35 => ?_)
      · refine hz_iconst (v := 0) hC dX1_run_42 rfl ?_
        exact hz_sub _ rfl (J33 _ (by first | (rw [if_pos c35]; done) | (simp only [if_pos c35]; done) | rfl))
      · refine hz_iload_n hC dX1_run_20 rfl ?_
        refine hz_sipush (v := 2000) hC dX1_run_21 rfl ?_
        refine hz_icmp_gt (x := _) hC 42 dX1_run_24 (by decide) (fun c36 => ?_) (fun c36 => ?_)
        · refine hz_iconst (v := 0) hC dX1_run_42 rfl ?_
          exact hz_sub _ rfl (J33 _ (by first | (rw [if_neg c35, if_pos c36]; done) | (simp only [if_neg c35, if_pos c36]; done) | rfl))
        · refine hz_iload_n hC dX1_run_27 rfl ?_
          refine hz_if_lt (x := _) hC 42 dX1_run_28 (by decide) (fun c37 => ?_) (fun c37 => ?_)
          · refine hz_iconst (v := 0) hC dX1_run_42 rfl ?_
            exact hz_sub _ rfl (J33 _ (by first | (rw [if_neg c35, if_neg c36, if_pos c37]; done) | (simp only [if_neg c35, if_neg c36, if_pos c37]; done) | rfl))
          · refine hz_iload_n hC dX1_run_31 rfl ?_
            refine hz_sipush (v := 1024) hC dX1_run_32 rfl ?_
            refine hz_icmp_gt (x := _) hC 42 dX1_run_35 (by decide) (fun c38 => ?_) (fun c38 => ?_)
            · refine hz_iconst (v := 0) hC dX1_run_42 rfl ?_
              exact hz_sub _ rfl (J33 _ (by first | (rw [if_neg c35, if_neg c36, if_neg c37, if_pos c38]; done) | (simp only [if_neg c35, if_neg c36, if_neg c37, if_pos c38]; done) | rfl))
            · refine hz_iconst (v := 1) hC dX1_run_38 rfl ?_
              refine hz_goto hC 43 dX1_run_39 (by decide) ?_
              exact hz_sub _ rfl (J33 _ (by first | (rw [if_neg c35, if_neg c36, if_neg c37, if_neg c38]; done) | (simp only [if_neg c35, if_neg c36, if_neg c37, if_neg c38]; done) | rfl))
    · rw [ht_1 z8] at h
      obtain rfl := Option.some.inj h
      exact hz_of (hs_callSx (HX z8) hem [_] _ dX1_run_13 q2378 q2379 q315 q2380 np_X1 rfl pd_X1_ready (Nat.le_of_ble_eq_true rfl) hd1 (hc_M1 (r := r4) (okX1_ready l E A (d - 1)  (by omega)  e5 am) z8) (hc_rb rfl) rfl)
  refine hz_icmp_eq (x := _) hC 12 dX1_run_5 (by decide) (fun c41 => ?_) (fun c41 => ?_)
  · refine hz_iconst (v := 0) hC dX1_run_12 rfl ?_
    exact hz_sub _ rfl (J39 _ (by first | (rw [if_pos c41]; done) | (simp only [if_pos c41]; done) | rfl))
  · refine hz_iconst (v := 1) hC dX1_run_8 rfl ?_
    refine hz_goto hC 13 dX1_run_9 (by decide) ?_
    exact hz_sub _ rfl (J39 _ (by first | (rw [if_neg c41]; done) | (simp only [if_neg c41]; done) | rfl))
/-- HomeCompiler.within(Z)V -/
def fm_X1_within  (x0 : Int32) (σ : hc_St) : Option (Nat × Int32 × hc_St) := if x0 = 0 then (hk (hxr σ) <| some (3, 0, pU σ hxC hxS)) else (some (0, 0, σ))
theorem oknX1_within (l : Launch) (E : hc_E) (A : Nat → Prop) (d : Nat) (hD : 13 ≤ d) {x0 : Int32} {σ : hc_St} {r : Nat × Int32 × hc_St} (h : fm_X1_within x0 σ = some r) (am : Nat → Nat → Nat) : hc_N0 l yX1_within (ws_ yX1_within cX1_within 1 none) d E A [.int x0] am σ (hc_ot (fun v => none) r) r.2.2 :=
  hx_need (k := 3) [(0, .int x0)] hD pl_X1 rfl rfl (Nat.le_of_ble_eq_true rfl) rfl q2713 q2714 q349 (fun h1 h2 => hx_at3 h1 h2 q2722) (by decide +kernel) (by decide) dX1_within_0 dX1_within_1 dX1_within_4 dX1_within_7 dX1_within_8 dX1_within_11 dX1_within_12 h am
theorem okX1_within (l : Launch) (E : hc_E) (A : Nat → Prop) (d : Nat) (hD : 13 ≤ d) {x0 : Int32} {σ : hc_St} {r : Nat × Int32 × hc_St} (h : fm_X1_within x0 σ = some r) (am : Nat → Nat → Nat) : hc_M l hc_V0 yX1_within (ws_ yX1_within cX1_within 1 none) d E A [.int x0] am [] σ (hc_ot (fun v => none) r) r.2.2 := (oknX1_within l E A d hD h am).M
/-- HomeCompiler.paperAt(I)I -/
def fm_X1_paperAt  (x1 : Int32) (σ : hc_St) : Option (Nat × Int32 × hc_St) := Option.bind (α := Int32) (if x1 < 0 then (some (0)) else (if (jmin ((gI σ 17 4)) 1024) ≤ x1 then (some (0)) else (some (1)))) fun r3 => Option.bind (fm_X1_within r3 σ) fun r10 => ht r10 <| hk (inb x1 (gL r10.2.2 17 3)) <| some (0, (gC r10.2.2 17 3 x1), r10.2.2)
set_option maxRecDepth 20000 in
set_option maxHeartbeats 4000000 in
theorem okX1_paperAt (l : Launch) (E : hc_E) (A : Nat → Prop) (d : Nat)  (hD : 14 ≤ d) {x1 : Int32} {σ : hc_St} {r : (Nat × Int32 × hc_St)} (h : fm_X1_paperAt  x1 σ = some r) (am : Nat → Nat → Nat) : hc_M l hc_V0 yX1_paperAt (ws_ yX1_paperAt cX1_paperAt 2 (some .int)) d E A [.ref (E.2.1 0), .int x1] am [] σ (hc_ot (fun v => some (.int v)) r) r.2.2 := by
  have hd1 : 1 ≤ d := by omega
  have hd8 : 9 ≤ d := by omega
  have hd12 : 12 ≤ d := by omega
  refine hc_enter2 (own := RX1) [(0, .ref (E.2.1 0)), (1, .int x1)] pl_X1 rfl hc_V0_st hc_G0_nd rfl (Nat.le_of_ble_eq_true rfl) (fun X hC hem => ?_)
  have HX := fun z => hc_CX hC z
  unfold fm_X1_paperAt at h
  refine hr_iload_n hC dX1_paperAt_0 rfl ?_
  obtain ⟨r3, e4, h⟩ := hx_bind h
  have J5 : hc_At hc_V0 E 2 X 26 [(0, .ref (E.2.1 0)), (1, .int x1)] [.int r3] σ am [] := by
    obtain ⟨r10, e11, h⟩ := hx_bind h
    by_cases z14 : r10.1 = 0
    · rw [ht_0 z14] at h
      refine hs_callS0 hC [_] _ dX1_paperAt_26 q2710 q2711 q315 q2712 np_X1 rfl pd_X1_within (Nat.le_of_ble_eq_true rfl) hd1 (hc_M0 (r := r10) (okX1_within l E A (d - 1)  (by omega)  e11 am) z14) rfl ?_
      refine hr_aload_n hC dX1_paperAt_29 rfl ?_
      refine hr_gO 17 hC F0_9 rfl dX1_paperAt_30 q1000 ?_
      refine hr_gAN hC F17_3 rfl dX1_paperAt_33 (nl_3 hC.2.2.2.2.2.2.2.2.1) ?_
      refine hr_iload_n hC dX1_paperAt_36 rfl ?_
      obtain ⟨c15, h⟩ := hk_ok h
      refine hs_iald hC A17_3 c15 dX1_paperAt_37 ?_
      obtain rfl := Option.some.inj h
      exact hr_iret hC dX1_paperAt_38
    · rw [ht_1 z14] at h
      obtain rfl := Option.some.inj h
      exact hs_callSx (HX z14) hem [_] _ dX1_paperAt_26 q2710 q2711 q315 q2712 np_X1 rfl pd_X1_within (Nat.le_of_ble_eq_true rfl) hd1 (hc_M1 (r := r10) (okX1_within l E A (d - 1)  (by omega)  e11 am) z14) (hc_rb rfl) rfl
  clear h
  have h := e4
  refine hr_if_lt (x := _) hC 25 dX1_paperAt_1 (by decide) (fun c2 => ?_) (fun c2 => ?_)
  · rw [if_pos c2] at h
    refine hr_iconst (v := 0) hC dX1_paperAt_25 rfl ?_
    obtain rfl := Option.some.inj h
    exact hr_sub _ rfl (J5)
  · rw [if_neg c2] at h
    refine hr_iload_n hC dX1_paperAt_4 rfl ?_
    refine hr_aload_n hC dX1_paperAt_5 rfl ?_
    refine hr_gO 17 hC F0_9 rfl dX1_paperAt_6 q1000 ?_
    refine hr_gIN hC F17_4 dX1_paperAt_9 (nl_4 hC.2.2.2.2.2.2.2.2.1) ?_
    refine hr_sipush (v := 1024) hC dX1_paperAt_12 rfl ?_
    refine hr_min hC dX1_paperAt_15 q2709 hd1 (Nat.le_of_ble_eq_true rfl) ?_
    refine hr_icmp_ge (x := _) hC 25 dX1_paperAt_18 (by decide) (fun c9 => ?_) (fun c9 => ?_)
    · rw [if_pos c9] at h
      refine hr_iconst (v := 0) hC dX1_paperAt_25 rfl ?_
      obtain rfl := Option.some.inj h
      exact hr_sub _ rfl (J5)
    · rw [if_neg c9] at h
      refine hr_iconst (v := 1) hC dX1_paperAt_21 rfl ?_
      refine hr_goto hC 26 dX1_paperAt_22 (by decide) ?_
      obtain rfl := Option.some.inj h
      exact hr_sub _ rfl (J5)
/-- HomeCompiler.disk(I)I -/
def fm_X1_disk  (x1 : Int32) (σ : hc_St) : Option (Nat × Int32 × hc_St) := hl (α := Int32) ((if x1 < 0 then 0 else (if 128 ≤ x1 then 0 else 1))) fun v3 => Option.bind (fm_X1_within v3 σ) fun r4 => ht r4 <| hk (inb x1 (gL r4.2.2 17 7)) <| some (0, (gC r4.2.2 17 7 x1), r4.2.2)
set_option maxRecDepth 20000 in
set_option maxHeartbeats 4000000 in
theorem okX1_disk (l : Launch) (E : hc_E) (A : Nat → Prop) (d : Nat)  (hD : 14 ≤ d) {x1 : Int32} {σ : hc_St} {r : (Nat × Int32 × hc_St)} (h : fm_X1_disk  x1 σ = some r) (am : Nat → Nat → Nat) : hc_M l hc_V0 yX1_disk (ws_ yX1_disk cX1_disk 2 (some .int)) d E A [.ref (E.2.1 0), .int x1] am [] σ (hc_ot (fun v => some (.int v)) r) r.2.2 := by
  have hd1 : 1 ≤ d := by omega
  have hd8 : 9 ≤ d := by omega
  have hd12 : 12 ≤ d := by omega
  refine hc_enter2 (own := RX1) [(0, .ref (E.2.1 0)), (1, .int x1)] pl_X1 rfl hc_V0_st hc_G0_nd rfl (Nat.le_of_ble_eq_true rfl) (fun X hC hem => ?_)
  have HX := fun z => hc_CX hC z
  unfold fm_X1_disk at h
  refine hr_iload_n hC dX1_disk_0 rfl ?_
  obtain ⟨v3, hv3, h⟩ := hl_ok h
  have J10 : ∀ w11 : Int32, (if x1 < 0 then 0 else (if 128 ≤ x1 then 0 else 1)) = w11 → hc_At hc_V0 E 2 X 16 [(0, .ref (E.2.1 0)), (1, .int x1)] [.int w11] σ am [] := by
    intro w11 hw11
    obtain rfl := hv3.trans hw11
    obtain ⟨r4, e5, h⟩ := hx_bind h
    by_cases z8 : r4.1 = 0
    · rw [ht_0 z8] at h
      refine hs_callS0 hC [_] _ dX1_disk_16 q2710 q2711 q315 q2712 np_X1 rfl pd_X1_within (Nat.le_of_ble_eq_true rfl) hd1 (hc_M0 (r := r4) (okX1_within l E A (d - 1)  (by omega)  e5 am) z8) rfl ?_
      refine hr_aload_n hC dX1_disk_19 rfl ?_
      refine hr_gO 17 hC F0_9 rfl dX1_disk_20 q1000 ?_
      refine hr_gAN hC F17_7 rfl dX1_disk_23 (nl_7 hC.2.2.2.2.2.2.2.2.1) ?_
      refine hr_iload_n hC dX1_disk_26 rfl ?_
      obtain ⟨c9, h⟩ := hk_ok h
      refine hs_iald hC A17_7 c9 dX1_disk_27 ?_
      obtain rfl := Option.some.inj h
      exact hr_iret hC dX1_disk_28
    · rw [ht_1 z8] at h
      obtain rfl := Option.some.inj h
      exact hs_callSx (HX z8) hem [_] _ dX1_disk_16 q2710 q2711 q315 q2712 np_X1 rfl pd_X1_within (Nat.le_of_ble_eq_true rfl) hd1 (hc_M1 (r := r4) (okX1_within l E A (d - 1)  (by omega)  e5 am) z8) (hc_rb rfl) rfl
  refine hr_if_lt (x := _) hC 15 dX1_disk_1 (by decide) (fun c12 => ?_) (fun c12 => ?_)
  · refine hr_iconst (v := 0) hC dX1_disk_15 rfl ?_
    exact hr_sub _ rfl (J10 _ (by first | (rw [if_pos c12]; done) | (simp only [if_pos c12]; done) | rfl))
  · refine hr_iload_n hC dX1_disk_4 rfl ?_
    refine hr_sipush (v := 128) hC dX1_disk_5 rfl ?_
    refine hr_icmp_ge (x := _) hC 15 dX1_disk_8 (by decide) (fun c13 => ?_) (fun c13 => ?_)
    · refine hr_iconst (v := 0) hC dX1_disk_15 rfl ?_
      exact hr_sub _ rfl (J10 _ (by first | (rw [if_neg c12, if_pos c13]; done) | (simp only [if_neg c12, if_pos c13]; done) | rfl))
    · refine hr_iconst (v := 1) hC dX1_disk_11 rfl ?_
      refine hr_goto hC 16 dX1_disk_12 (by decide) ?_
      exact hr_sub _ rfl (J10 _ (by first | (rw [if_neg c12, if_neg c13]; done) | (simp only [if_neg c12, if_neg c13]; done) | rfl))
/-- HomeCompiler.setDisk(II)V -/
def fm_X1_setDisk  (x1 : Int32) (x2 : Int32) (σ : hc_St) : Option (Nat × Int32 × hc_St) := hl (α := Int32) ((if x1 < 0 then 0 else (if 128 ≤ x1 then 0 else 1))) fun v3 => Option.bind (fm_X1_within v3 σ) fun r4 => ht r4 <| hk (inb x1 (gL r4.2.2 17 7)) <| hl (pC r4.2.2 17 7 x1 x2) fun σ10 => some (0, 0, σ10)
set_option maxRecDepth 20000 in
set_option maxHeartbeats 4000000 in
theorem okX1_setDisk (l : Launch) (E : hc_E) (A : Nat → Prop) (d : Nat)  (hD : 14 ≤ d) {x1 : Int32} {x2 : Int32} {σ : hc_St} {r : (Nat × Int32 × hc_St)} (h : fm_X1_setDisk  x1 x2 σ = some r) (am : Nat → Nat → Nat) : hc_M l hc_V0 yX1_setDisk (ws_ yX1_setDisk cX1_setDisk 3 none) d E A [.ref (E.2.1 0), .int x1, .int x2] am [] σ (hc_ot (fun v => none) r) r.2.2 := by
  have hd1 : 1 ≤ d := by omega
  have hd8 : 9 ≤ d := by omega
  have hd12 : 12 ≤ d := by omega
  refine hc_enter2 (own := RX1) [(0, .ref (E.2.1 0)), (1, .int x1), (2, .int x2)] pl_X1 rfl hc_V0_st hc_G0_nd rfl (Nat.le_of_ble_eq_true rfl) (fun X hC hem => ?_)
  have HX := fun z => hc_CX hC z
  unfold fm_X1_setDisk at h
  refine hr_iload_n hC dX1_setDisk_0 rfl ?_
  obtain ⟨v3, hv3, h⟩ := hl_ok h
  have J11 : ∀ w12 : Int32, (if x1 < 0 then 0 else (if 128 ≤ x1 then 0 else 1)) = w12 → hc_At hc_V0 E 3 X 16 [(0, .ref (E.2.1 0)), (1, .int x1), (2, .int x2)] [.int w12] σ am [] := by
    intro w12 hw12
    obtain rfl := hv3.trans hw12
    obtain ⟨r4, e5, h⟩ := hx_bind h
    by_cases z8 : r4.1 = 0
    · rw [ht_0 z8] at h
      refine hs_callS0 hC [_] _ dX1_setDisk_16 q2710 q2711 q315 q2712 np_X1 rfl pd_X1_within (Nat.le_of_ble_eq_true rfl) hd1 (hc_M0 (r := r4) (okX1_within l E A (d - 1)  (by omega)  e5 am) z8) rfl ?_
      refine hr_aload_n hC dX1_setDisk_19 rfl ?_
      refine hr_gO 17 hC F0_9 rfl dX1_setDisk_20 q1000 ?_
      refine hr_gAN hC F17_7 rfl dX1_setDisk_23 (nl_7 hC.2.2.2.2.2.2.2.2.1) ?_
      refine hr_iload_n hC dX1_setDisk_26 rfl ?_
      refine hr_iload_n hC dX1_setDisk_27 rfl ?_
      obtain ⟨c9, h⟩ := hk_ok h
      obtain ⟨σ10, hσ10, h⟩ := hl_ok h
      refine hs_iast hC A17_7 c9 dX1_setDisk_28 ?_
      rw [← hσ10]
      obtain rfl := Option.some.inj h
      exact hr_vret hC dX1_setDisk_29
    · rw [ht_1 z8] at h
      obtain rfl := Option.some.inj h
      exact hs_callSx (HX z8) hem [_] _ dX1_setDisk_16 q2710 q2711 q315 q2712 np_X1 rfl pd_X1_within (Nat.le_of_ble_eq_true rfl) hd1 (hc_M1 (r := r4) (okX1_within l E A (d - 1)  (by omega)  e5 am) z8) (hc_rb rfl) rfl
  refine hr_if_lt (x := _) hC 15 dX1_setDisk_1 (by decide) (fun c13 => ?_) (fun c13 => ?_)
  · refine hr_iconst (v := 0) hC dX1_setDisk_15 rfl ?_
    exact hr_sub _ rfl (J11 _ (by first | (rw [if_pos c13]; done) | (simp only [if_pos c13]; done) | rfl))
  · refine hr_iload_n hC dX1_setDisk_4 rfl ?_
    refine hr_sipush (v := 128) hC dX1_setDisk_5 rfl ?_
    refine hr_icmp_ge (x := _) hC 15 dX1_setDisk_8 (by decide) (fun c14 => ?_) (fun c14 => ?_)
    · refine hr_iconst (v := 0) hC dX1_setDisk_15 rfl ?_
      exact hr_sub _ rfl (J11 _ (by first | (rw [if_neg c13, if_pos c14]; done) | (simp only [if_neg c13, if_pos c14]; done) | rfl))
    · refine hr_iconst (v := 1) hC dX1_setDisk_11 rfl ?_
      refine hr_goto hC 16 dX1_setDisk_12 (by decide) ?_
      exact hr_sub _ rfl (J11 _ (by first | (rw [if_neg c13, if_neg c14]; done) | (simp only [if_neg c13, if_neg c14]; done) | rfl))
/-- HomeCompiler.variable(I)I -/
def fm_X1_variable_2  (x1 : Int32) (σ : hc_St) : Option (Nat × Int32 × hc_St) := hl (α := Int32) ((if x1 < 0 then 0 else (if (gI σ 0 14) ≤ x1 then 0 else 1))) fun v3 => Option.bind (fm_X1_within v3 σ) fun r4 => ht r4 <| Option.bind (α := Int32) (if (gI r4.2.2 0 15) = 0 then (some (0)) else (Option.bind (fm_X17_word ((4096 + ((4 * x1)))) r4.2.2) fun r15 => some (r15))) fun r11 => some (0, r11, r4.2.2)
set_option maxRecDepth 20000 in
set_option maxHeartbeats 4000000 in
theorem okX1_variable_2 (l : Launch) (E : hc_E) (A : Nat → Prop) (d : Nat)  (hD : 14 ≤ d) {x1 : Int32} {σ : hc_St} {r : (Nat × Int32 × hc_St)} (h : fm_X1_variable_2  x1 σ = some r) (am : Nat → Nat → Nat) : hc_M l hc_V0 yX1_variable_2 (ws_ yX1_variable_2 cX1_variable_2 2 (some .int)) d E A [.ref (E.2.1 0), .int x1] am [] σ (hc_ot (fun v => some (.int v)) r) r.2.2 := by
  have hd1 : 1 ≤ d := by omega
  have hd8 : 9 ≤ d := by omega
  have hd12 : 12 ≤ d := by omega
  refine hc_enter2 (own := RX1) [(0, .ref (E.2.1 0)), (1, .int x1)] pl_X1 rfl hc_V0_st hc_G0_nd rfl (Nat.le_of_ble_eq_true rfl) (fun X hC hem => ?_)
  have HX := fun z => hc_CX hC z
  unfold fm_X1_variable_2 at h
  refine hr_iload_n hC dX1_variable_2_0 rfl ?_
  obtain ⟨v3, hv3, h⟩ := hl_ok h
  have J19 : ∀ w20 : Int32, (if x1 < 0 then 0 else (if (gI σ 0 14) ≤ x1 then 0 else 1)) = w20 → hc_At hc_V0 E 2 X 17 [(0, .ref (E.2.1 0)), (1, .int x1)] [.int w20] σ am [] := by
    intro w20 hw20
    obtain rfl := hv3.trans hw20
    obtain ⟨r4, e5, h⟩ := hx_bind h
    by_cases z8 : r4.1 = 0
    · rw [ht_0 z8] at h
      refine hs_callS0 hC [_] _ dX1_variable_2_17 q2710 q2711 q315 q2712 np_X1 rfl pd_X1_within (Nat.le_of_ble_eq_true rfl) hd1 (hc_M0 (r := r4) (okX1_within l E A (d - 1)  (by omega)  e5 am) z8) rfl ?_
      refine hr_aload_n hC dX1_variable_2_20 rfl ?_
      refine hr_gI hC F0_15 dX1_variable_2_21 q1006 ?_
      obtain ⟨r11, e12, h⟩ := hx_bind h
      have J13 : hc_At hc_V0 E 2 X 48 [] [.int r11] r4.2.2 am [] := by
        obtain rfl := Option.some.inj h
        exact hr_iret hC dX1_variable_2_48
      clear h
      have h := e12
      refine hr_if_eq (x := _) hC 47 dX1_variable_2_24 (by decide) (fun c10 => ?_) (fun c10 => ?_)
      · rw [if_pos c10] at h
        refine hr_iconst (v := 0) hC dX1_variable_2_47 rfl ?_
        obtain rfl := Option.some.inj h
        exact hr_sub _ rfl (J13)
      · rw [if_neg c10] at h
        refine hr_aload_n hC dX1_variable_2_27 rfl ?_
        refine hr_gO 17 hC F0_9 rfl dX1_variable_2_28 q1000 ?_
        refine hr_gON 18 hC F17_0 rfl dX1_variable_2_31 (nl_1 hC.2.2.2.2.2.2.2.2.1) ?_
        refine hr_sipush (v := 4096) hC dX1_variable_2_34 rfl ?_
        refine hr_iconst (v := 4) hC dX1_variable_2_37 rfl ?_
        refine hr_iload_n hC dX1_variable_2_38 rfl ?_
        refine hr_imul hC dX1_variable_2_39 ?_
        refine hr_iadd hC dX1_variable_2_40 ?_
        obtain ⟨r15, e16, h⟩ := hx_bind h
        refine hs_callV0 hC 18 [_] _ dX1_variable_2_41 q2749 q2557 q2558 q331 q2559 np_X17 rfl OB_18 pd_X17_word (Nat.le_of_ble_eq_true rfl) hd1 (okX17_word l E A (d - 1)  (by omega)  e16 am) rfl ?_
        refine hr_goto hC 48 dX1_variable_2_44 (by decide) ?_
        obtain rfl := Option.some.inj h
        exact hr_sub _ rfl (J13)
    · rw [ht_1 z8] at h
      obtain rfl := Option.some.inj h
      exact hs_callSx (HX z8) hem [_] _ dX1_variable_2_17 q2710 q2711 q315 q2712 np_X1 rfl pd_X1_within (Nat.le_of_ble_eq_true rfl) hd1 (hc_M1 (r := r4) (okX1_within l E A (d - 1)  (by omega)  e5 am) z8) (hc_rb rfl) rfl
  refine hr_if_lt (x := _) hC 16 dX1_variable_2_1 (by decide) (fun c21 => ?_) (fun c21 => ?_)
  · refine hr_iconst (v := 0) hC dX1_variable_2_16 rfl ?_
    exact hr_sub _ rfl (J19 _ (by first | (rw [if_pos c21]; done) | (simp only [if_pos c21]; done) | rfl))
  · refine hr_iload_n hC dX1_variable_2_4 rfl ?_
    refine hr_aload_n hC dX1_variable_2_5 rfl ?_
    refine hr_gI hC F0_14 dX1_variable_2_6 q1005 ?_
    refine hr_icmp_ge (x := _) hC 16 dX1_variable_2_9 (by decide) (fun c22 => ?_) (fun c22 => ?_)
    · refine hr_iconst (v := 0) hC dX1_variable_2_16 rfl ?_
      exact hr_sub _ rfl (J19 _ (by first | (rw [if_neg c21, if_pos c22]; done) | (simp only [if_neg c21, if_pos c22]; done) | rfl))
    · refine hr_iconst (v := 1) hC dX1_variable_2_12 rfl ?_
      refine hr_goto hC 17 dX1_variable_2_13 (by decide) ?_
      exact hr_sub _ rfl (J19 _ (by first | (rw [if_neg c21, if_neg c22]; done) | (simp only [if_neg c21, if_neg c22]; done) | rfl))
def lp_X3_clear_15 (n : Nat) : Nat → Int32 → hc_St → Option (hc_St)
  | 0, _, _ => none
  | m + 1, y1, σ => if 256 ≤ y1 then (some (σ)) else (hk (inb y1 (gL σ 2 5)) <| hl (pC σ 2 5 y1 ((-1))) fun σ9 => lp_X3_clear_15 n m ((y1 + 1)) σ9)
/-- HomeCompiler$Names.clear()V -/
def fm_X3_clear (n : Nat)  (σ : hc_St) : Option hc_St := Option.bind (fm_X4_cut 3 0 σ) fun r1 => hl (pI r1 2 4 0) fun σ5 => Option.bind (lp_X3_clear_15 n n 0 σ5) fun r10 => some r10
set_option maxRecDepth 20000 in
set_option maxHeartbeats 4000000 in
theorem ll_X3_clear_15 {l : Launch} {E : hc_E} {A : Nat → Prop} {am : Nat → Nat → Nat} {d : Nat} {X : hc_X} (n : Nat) (hD : 2 ≤ d) (hem : X.2.2.2.2.2.2.2.2.2.1.exceptionTable.isEmpty = true) {oc : hc_Oc} {σe : hc_St} (hC : hc_C hc_V0 E cX3_clear 2 RX3 none d oc σe (l, A, am, []) X) : ∀ (m : Nat) (σ : hc_St) (y1 : Int32) (rl : hc_St) (am1 : Nat → Nat → Nat), lp_X3_clear_15 n m y1 σ = some rl → (hc_At hc_V0 E 2 X 35 [] [] rl am1 []) → hc_At hc_V0 E 2 X 15 [(0, .ref (E.2.1 2)), (1, .int y1)] [] σ am1 [] := by
  have hd1 : 1 ≤ d := by omega
  intro m
  induction m with
  | zero =>
    intro σ y1 rl am1 h
    cases h
  | succ m ih =>
    intro σ y1 rl am1 h JX
    rw [lp_X3_clear_15] at h
    refine hr_iload_n hC dX3_clear_15 rfl ?_
    refine hr_sipush (v := 256) hC dX3_clear_16 rfl ?_
    refine hr_icmp_ge (x := _) hC 35 dX3_clear_19 (by decide) (fun c7 => ?_) (fun c7 => ?_)
    · rw [if_pos c7] at h
      obtain rfl := Option.some.inj h
      exact hr_sub _ rfl (JX)
    · rw [if_neg c7] at h
      refine hr_aload_n hC dX3_clear_22 rfl ?_
      refine hr_gA hC F2_5 rfl dX3_clear_23 q441 ?_
      refine hr_iload_n hC dX3_clear_26 rfl ?_
      refine hr_iconst (v := (-1)) hC dX3_clear_27 rfl ?_
      obtain ⟨c8, h⟩ := hk_ok h
      obtain ⟨σ9, hσ9, h⟩ := hl_ok h
      refine hs_iast hC A2_5 c8 dX3_clear_28 ?_
      rw [← hσ9]
      refine hr_iinc (v := y1 + 1) hC dX3_clear_29 rfl rfl (by decide) ?_
      refine hr_goto hC 15 dX3_clear_32 (by decide) ?_
      exact hr_sub _ rfl (ih _ _ _ am1 h JX)
set_option maxRecDepth 20000 in
set_option maxHeartbeats 4000000 in
theorem okX3_clear (l : Launch) (E : hc_E) (A : Nat → Prop) (d : Nat) (n : Nat) (hD : 2 ≤ d)  {σ : hc_St} {r : hc_St} (h : fm_X3_clear n  σ = some r) (am : Nat → Nat → Nat) : hc_M l hc_V0 yX3_clear (ws_ yX3_clear cX3_clear 2 none) d E A [.ref (E.2.1 2)] am [] σ (.inl none) r := by
  have hd1 : 1 ≤ d := by omega
  refine hc_enter2 (own := RX3) [(0, .ref (E.2.1 2))] pl_X3 rfl hc_V0_st hc_G0_nd rfl (Nat.le_of_ble_eq_true rfl) (fun X hC hem => ?_)
  unfold fm_X3_clear at h
  refine hr_aload_n hC dX3_clear_0 rfl ?_
  refine hr_gO 3 hC F2_0 rfl dX3_clear_1 q436 ?_
  refine hr_iconst (v := 0) hC dX3_clear_4 rfl ?_
  obtain ⟨r1, e2, h⟩ := hx_bind h
  refine hs_callV0 hC 3 [_] _ dX3_clear_5 q987 q988 q989 q318 q990 np_X4 rfl OB_3 pd_X4_cut (Nat.le_of_ble_eq_true rfl) hd1 (okX4_cut l E A (d - 1)  (by omega) (by unfold hc_by; decide) e2 am) rfl ?_
  refine hr_aload_n hC dX3_clear_8 rfl ?_
  refine hr_iconst (v := 0) hC dX3_clear_9 rfl ?_
  obtain ⟨σ5, hσ5, h⟩ := hl_ok h
  refine hr_pI hC F2_4 PX3_4 dX3_clear_10 q440 ?_
  rw [← hσ5]
  refine hr_iconst (v := 0) hC dX3_clear_13 rfl ?_
  refine hr_istore_n hC dX3_clear_14 (by decide) ?_
  obtain ⟨r10, e11, h⟩ := hx_bind h
  refine hr_sub _ rfl (ll_X3_clear_15 n hD hem hC n _ _ _ am e11 ?_)
  obtain rfl := Option.some.inj h
  exact hr_vret hC dX3_clear_35
/-- HomeCompiler$Nodes.clear()V -/
def fm_X6_clear   (σ : hc_St) : Option hc_St := hl (pI σ 6 10 0) fun σ1 => some σ1
set_option maxRecDepth 20000 in
set_option maxHeartbeats 4000000 in
theorem okX6_clear (l : Launch) (E : hc_E) (A : Nat → Prop) (d : Nat)  (hD : 1 ≤ d)  {σ : hc_St} {r : hc_St} (h : fm_X6_clear   σ = some r) (am : Nat → Nat → Nat) : hc_M l hc_V0 yX6_clear (ws_ yX6_clear cX6_clear 1 none) d E A [.ref (E.2.1 6)] am [] σ (.inl none) r := by
  have hd1 : 1 ≤ d := by omega
  refine hc_enter2 (own := RX6) [(0, .ref (E.2.1 6))] pl_X6 rfl hc_V0_st hc_G0_nd rfl (Nat.le_of_ble_eq_true rfl) (fun X hC hem => ?_)
  unfold fm_X6_clear at h
  refine hr_aload_n hC dX6_clear_0 rfl ?_
  refine hr_iconst (v := 0) hC dX6_clear_1 rfl ?_
  obtain ⟨σ1, hσ1, h⟩ := hl_ok h
  refine hr_pI hC F6_10 PX6_10 dX6_clear_2 q535 ?_
  rw [← hσ1]
  obtain rfl := Option.some.inj h
  exact hr_vret hC dX6_clear_5
/-- HomeCompiler$Wrong.clear()V -/
def fm_X9_clear   (σ : hc_St) : Option hc_St := hl (pI σ 9 0 0) fun σ1 => hl (pI σ1 9 1 0) fun σ2 => some σ2
set_option maxRecDepth 20000 in
set_option maxHeartbeats 4000000 in
theorem okX9_clear (l : Launch) (E : hc_E) (A : Nat → Prop) (d : Nat)  (hD : 1 ≤ d)  {σ : hc_St} {r : hc_St} (h : fm_X9_clear   σ = some r) (am : Nat → Nat → Nat) : hc_M l hc_V0 yX9_clear (ws_ yX9_clear cX9_clear 1 none) d E A [.ref (E.2.1 9)] am [] σ (.inl none) r := by
  have hd1 : 1 ≤ d := by omega
  refine hc_enter2 (own := RX9) [(0, .ref (E.2.1 9))] pl_X9 rfl hc_V0_st hc_G0_nd rfl (Nat.le_of_ble_eq_true rfl) (fun X hC hem => ?_)
  unfold fm_X9_clear at h
  refine hr_aload_n hC dX9_clear_0 rfl ?_
  refine hr_iconst (v := 0) hC dX9_clear_1 rfl ?_
  obtain ⟨σ1, hσ1, h⟩ := hl_ok h
  refine hr_pI hC F9_0 PX9_0 dX9_clear_2 q596 ?_
  rw [← hσ1]
  refine hr_aload_n hC dX9_clear_5 rfl ?_
  refine hr_iconst (v := 0) hC dX9_clear_6 rfl ?_
  obtain ⟨σ2, hσ2, h⟩ := hl_ok h
  refine hr_pI hC F9_1 PX9_1 dX9_clear_7 q597 ?_
  rw [← hσ2]
  obtain rfl := Option.some.inj h
  exact hr_vret hC dX9_clear_10
def lp_X11_clear_12 (n : Nat) : Nat → Int32 → hc_St → Option (hc_St)
  | 0, _, _ => none
  | m + 1, y1, σ => if (nI (gL σ 11 4)) ≤ y1 then (some (σ)) else (hk (inb y1 (gL σ 11 4)) <| hl (pC σ 11 4 y1 0) fun σ6 => lp_X11_clear_12 n m ((y1 + 1)) σ6)
/-- HomeCompiler$Variables.clear()V -/
def fm_X11_clear (n : Nat)  (σ : hc_St) : Option hc_St := hl (pI σ 11 3 0) fun σ1 => hl (pI σ1 11 5 0) fun σ2 => Option.bind (lp_X11_clear_12 n n 0 σ2) fun r7 => some r7
set_option maxRecDepth 20000 in
set_option maxHeartbeats 4000000 in
theorem ll_X11_clear_12 {l : Launch} {E : hc_E} {A : Nat → Prop} {am : Nat → Nat → Nat} {d : Nat} {X : hc_X} (n : Nat) (hD : 1 ≤ d) (hem : X.2.2.2.2.2.2.2.2.2.1.exceptionTable.isEmpty = true) {oc : hc_Oc} {σe : hc_St} (hC : hc_C hc_V0 E cX11_clear 2 RX11 none d oc σe (l, A, am, []) X) : ∀ (m : Nat) (σ : hc_St) (y1 : Int32) (rl : hc_St) (am1 : Nat → Nat → Nat), lp_X11_clear_12 n m y1 σ = some rl → (hc_At hc_V0 E 2 X 34 [] [] rl am1 []) → hc_At hc_V0 E 2 X 12 [(0, .ref (E.2.1 11)), (1, .int y1)] [] σ am1 [] := by
  have hd1 : 1 ≤ d := by omega
  intro m
  induction m with
  | zero =>
    intro σ y1 rl am1 h
    cases h
  | succ m ih =>
    intro σ y1 rl am1 h JX
    rw [lp_X11_clear_12] at h
    refine hr_iload_n hC dX11_clear_12 rfl ?_
    refine hr_aload_n hC dX11_clear_13 rfl ?_
    refine hr_gA hC F11_4 rfl dX11_clear_14 q644 ?_
    refine hs_alen1 hC A11_4 dX11_clear_17 ?_
    refine hr_icmp_ge (x := _) hC 34 dX11_clear_18 (by decide) (fun c4 => ?_) (fun c4 => ?_)
    · rw [if_pos c4] at h
      obtain rfl := Option.some.inj h
      exact hr_sub _ rfl (JX)
    · rw [if_neg c4] at h
      refine hr_aload_n hC dX11_clear_21 rfl ?_
      refine hr_gA hC F11_4 rfl dX11_clear_22 q644 ?_
      refine hr_iload_n hC dX11_clear_25 rfl ?_
      refine hr_iconst (v := 0) hC dX11_clear_26 rfl ?_
      obtain ⟨c5, h⟩ := hk_ok h
      obtain ⟨σ6, hσ6, h⟩ := hl_ok h
      refine hs_iast hC A11_4 c5 dX11_clear_27 ?_
      rw [← hσ6]
      refine hr_iinc (v := y1 + 1) hC dX11_clear_28 rfl rfl (by decide) ?_
      refine hr_goto hC 12 dX11_clear_31 (by decide) ?_
      exact hr_sub _ rfl (ih _ _ _ am1 h JX)
set_option maxRecDepth 20000 in
set_option maxHeartbeats 4000000 in
theorem okX11_clear (l : Launch) (E : hc_E) (A : Nat → Prop) (d : Nat) (n : Nat) (hD : 1 ≤ d)  {σ : hc_St} {r : hc_St} (h : fm_X11_clear n  σ = some r) (am : Nat → Nat → Nat) : hc_M l hc_V0 yX11_clear (ws_ yX11_clear cX11_clear 2 none) d E A [.ref (E.2.1 11)] am [] σ (.inl none) r := by
  have hd1 : 1 ≤ d := by omega
  refine hc_enter2 (own := RX11) [(0, .ref (E.2.1 11))] pl_X11 rfl hc_V0_st hc_G0_nd rfl (Nat.le_of_ble_eq_true rfl) (fun X hC hem => ?_)
  unfold fm_X11_clear at h
  refine hr_aload_n hC dX11_clear_0 rfl ?_
  refine hr_iconst (v := 0) hC dX11_clear_1 rfl ?_
  obtain ⟨σ1, hσ1, h⟩ := hl_ok h
  refine hr_pI hC F11_3 PX11_3 dX11_clear_2 q643 ?_
  rw [← hσ1]
  refine hr_aload_n hC dX11_clear_5 rfl ?_
  refine hr_iconst (v := 0) hC dX11_clear_6 rfl ?_
  obtain ⟨σ2, hσ2, h⟩ := hl_ok h
  refine hr_pI hC F11_5 PX11_5 dX11_clear_7 q645 ?_
  rw [← hσ2]
  refine hr_iconst (v := 0) hC dX11_clear_10 rfl ?_
  refine hr_istore_n hC dX11_clear_11 (by decide) ?_
  obtain ⟨r7, e8, h⟩ := hx_bind h
  refine hr_sub _ rfl (ll_X11_clear_12 n hD hem hC n _ _ _ am e8 ?_)
  obtain rfl := Option.some.inj h
  exact hr_vret hC dX11_clear_34
/-- HomeCompiler$Checker.clear()V -/
def fm_X8_clear (n : Nat)  (σ : hc_St) : Option hc_St := Option.bind (fm_X9_clear  σ) fun r1 => Option.bind (fm_X11_clear n r1) fun r5 => hl (pI r5 8 9 0) fun σ9 => some σ9
set_option maxRecDepth 20000 in
set_option maxHeartbeats 4000000 in
theorem okX8_clear (l : Launch) (E : hc_E) (A : Nat → Prop) (d : Nat) (n : Nat) (hD : 2 ≤ d)  {σ : hc_St} {r : hc_St} (h : fm_X8_clear n  σ = some r) (am : Nat → Nat → Nat) : hc_M l hc_V0 yX8_clear (ws_ yX8_clear cX8_clear 1 none) d E A [.ref (E.2.1 8)] am [] σ (.inl none) r := by
  have hd1 : 1 ≤ d := by omega
  refine hc_enter2 (own := RX8) [(0, .ref (E.2.1 8))] pl_X8 rfl hc_V0_st hc_G0_nd rfl (Nat.le_of_ble_eq_true rfl) (fun X hC hem => ?_)
  unfold fm_X8_clear at h
  refine hr_aload_n hC dX8_clear_0 rfl ?_
  refine hr_gO 9 hC F8_3 rfl dX8_clear_1 q664 ?_
  obtain ⟨r1, e2, h⟩ := hx_bind h
  refine hs_callV0 hC 9 [] _ dX8_clear_4 q1059 q1060 q1061 q323 q1062 np_X9 rfl OB_9 pd_X9_clear (Nat.le_of_ble_eq_true rfl) hd1 (okX9_clear l E A (d - 1)  (by omega)  e2 am) rfl ?_
  refine hr_aload_n hC dX8_clear_7 rfl ?_
  refine hr_gO 11 hC F8_5 rfl dX8_clear_8 q666 ?_
  obtain ⟨r5, e6, h⟩ := hx_bind h
  refine hs_callV0 hC 11 [] _ dX8_clear_11 q1063 q1064 q1065 q325 q1066 np_X11 rfl OB_11 pd_X11_clear (Nat.le_of_ble_eq_true rfl) hd1 (okX11_clear l E A (d - 1) n (by omega)  e6 am) rfl ?_
  refine hr_aload_n hC dX8_clear_14 rfl ?_
  refine hr_iconst (v := 0) hC dX8_clear_15 rfl ?_
  obtain ⟨σ9, hσ9, h⟩ := hl_ok h
  refine hr_pI hC F8_9 PX8_9 dX8_clear_16 q670 ?_
  rw [← hσ9]
  obtain rfl := Option.some.inj h
  exact hr_vret hC dX8_clear_19
/-- HomeCompiler$Scanner.look(I)I -/
def fm_X5_look  (x1 : Int32) (σ : hc_St) : Option Int32 := hk (decide (gI σ 5 4 ≠ 0)) <| Option.bind (fm_X4_size 22 σ) fun r2 => Option.bind (α := Int32) (if r2 ≤ (((gI σ 5 5)) + x1) then (some (0)) else (hk (decide (gI σ 5 4 ≠ 0)) <| Option.bind (fm_X4_at 22 ((((gI σ 5 5)) + x1)) σ) fun r13 => some (r13))) fun r8 => some r8
set_option maxRecDepth 20000 in
set_option maxHeartbeats 4000000 in
theorem okX5_look (l : Launch) (E : hc_E) (A : Nat → Prop) (d : Nat)  (hD : 2 ≤ d) {x1 : Int32} {σ : hc_St} {r : Int32} (h : fm_X5_look  x1 σ = some r) (am : Nat → Nat → Nat) : hc_M l hc_V0 yX5_look (ws_ yX5_look cX5_look 2 (some .int)) d E A [.ref (E.2.1 5), .int x1] am [] σ (.inl (some (.int r))) σ := by
  have hd1 : 1 ≤ d := by omega
  refine hc_enter2 (own := RX5) [(0, .ref (E.2.1 5)), (1, .int x1)] pl_X5 rfl hc_V0_st hc_G0_nd rfl (Nat.le_of_ble_eq_true rfl) (fun X hC hem => ?_)
  unfold fm_X5_look at h
  refine hr_aload_n hC dX5_look_0 rfl ?_
  refine hr_gI hC F5_5 dX5_look_1 q490 ?_
  refine hr_iload_n hC dX5_look_4 rfl ?_
  refine hr_iadd hC dX5_look_5 ?_
  refine hr_aload_n hC dX5_look_6 rfl ?_
  obtain ⟨c1, h⟩ := hk_ok h
  refine hr_g6 22 hC F5_4 rfl (of_decide_eq_true c1) dX5_look_7 q489 ?_
  obtain ⟨r2, e3, h⟩ := hx_bind h
  refine hs_callV0 hC 22 [] _ dX5_look_10 q1087 q1068 q1069 q318 q1070 np_X4 rfl OB_22 pd_X4_size (Nat.le_of_ble_eq_true rfl) hd1 (okX4_size l E A (d - 1)  (by omega) (by unfold hc_by; decide) e3 am) rfl ?_
  obtain ⟨r8, e9, h⟩ := hx_bind h
  have J10 : hc_At hc_V0 E 2 X 33 [] [.int r8] σ am [] := by
    obtain rfl := Option.some.inj h
    exact hr_iret hC dX5_look_33
  clear h
  have h := e9
  refine hr_icmp_ge (x := _) hC 32 dX5_look_13 (by decide) (fun c7 => ?_) (fun c7 => ?_)
  · rw [if_pos c7] at h
    refine hr_iconst (v := 0) hC dX5_look_32 rfl ?_
    obtain rfl := Option.some.inj h
    exact hr_sub _ rfl (J10)
  · rw [if_neg c7] at h
    refine hr_aload_n hC dX5_look_16 rfl ?_
    obtain ⟨c12, h⟩ := hk_ok h
    refine hr_g6 22 hC F5_4 rfl (of_decide_eq_true c12) dX5_look_17 q489 ?_
    refine hr_aload_n hC dX5_look_20 rfl ?_
    refine hr_gI hC F5_5 dX5_look_21 q490 ?_
    refine hr_iload_n hC dX5_look_24 rfl ?_
    refine hr_iadd hC dX5_look_25 ?_
    obtain ⟨r13, e14, h⟩ := hx_bind h
    refine hs_callV0 hC 22 [_] _ dX5_look_26 q1088 q1089 q1090 q318 q1091 np_X4 rfl OB_22 pd_X4_at (Nat.le_of_ble_eq_true rfl) hd1 (okX4_at l E A (d - 1)  (by omega) (by unfold hc_by; decide) e14 am) rfl ?_
    refine hr_goto hC 33 dX5_look_29 (by decide) ?_
    obtain rfl := Option.some.inj h
    exact hr_sub _ rfl (J10)
def lp_X5_passComment_2 (n : Nat) : Nat → Int32 → hc_St → Option (Int32)
  | 0, _, _ => none
  | m + 1, y1, σ => hk (decide (gI σ 5 4 ≠ 0)) <| Option.bind (fm_X4_size 22 σ) fun r2 => if r2 ≤ (((gI σ 5 5)) + y1) then (some (y1)) else (Option.bind (fm_X5_look y1 σ) fun r8 => if r8 = 42 then (Option.bind (fm_X5_look ((y1 + 1)) σ) fun r14 => if r14 = 47 then (some (y1)) else (lp_X5_passComment_2 n m ((y1 + 1)) σ)) else (lp_X5_passComment_2 n m ((y1 + 1)) σ))
/-- HomeCompiler$Scanner.passComment()Z -/
def fm_X5_passComment (n : Nat)  (σ : hc_St) : Option (Int32 × hc_St) := Option.bind (lp_X5_passComment_2 n n 2 σ) fun r20 => hk (decide (gI σ 5 4 ≠ 0)) <| Option.bind (fm_X4_size 22 σ) fun r26 => hl (α := Int32) ((if r26 ≤ (((gI σ 5 5)) + r20) then 0 else 1)) fun v32 => hl (α := Int32) ((if v32 = 0 then 0 else (r20 + 2))) fun v35 => hl (pI σ 5 5 ((((gI σ 5 5)) + v35))) fun σ36 => hk (hb01 v32) <| some (v32, σ36)
set_option maxRecDepth 20000 in
set_option maxHeartbeats 4000000 in
theorem ll_X5_passComment_2 {l : Launch} {E : hc_E} {A : Nat → Prop} {am : Nat → Nat → Nat} {d : Nat} {X : hc_X} (n : Nat) (hD : 3 ≤ d) (hem : X.2.2.2.2.2.2.2.2.2.1.exceptionTable.isEmpty = true) {oc : hc_Oc} {σe : hc_St} (hC : hc_C hc_V0 E cX5_passComment 3 RX5 (some .boolean) d oc σe (l, A, am, []) X) : ∀ (m : Nat) (σ : hc_St) (y1 : Int32) (rl : Int32) (am1 : Nat → Nat → Nat), lp_X5_passComment_2 n m y1 σ = some rl → (hc_At hc_V0 E 3 X 46 [(0, .ref (E.2.1 5)), (1, .int rl)] [] σ am1 []) → hc_At hc_V0 E 3 X 2 [(0, .ref (E.2.1 5)), (1, .int y1)] [] σ am1 [] := by
  have hd1 : 1 ≤ d := by omega
  intro m
  induction m with
  | zero =>
    intro σ y1 rl am1 h
    cases h
  | succ m ih =>
    intro σ y1 rl am1 h JX
    rw [lp_X5_passComment_2] at h
    refine hr_aload_n hC dX5_passComment_2 rfl ?_
    refine hr_gI hC F5_5 dX5_passComment_3 q490 ?_
    refine hr_iload_n hC dX5_passComment_6 rfl ?_
    refine hr_iadd hC dX5_passComment_7 ?_
    refine hr_aload_n hC dX5_passComment_8 rfl ?_
    obtain ⟨c1, h⟩ := hk_ok h
    refine hr_g6 22 hC F5_4 rfl (of_decide_eq_true c1) dX5_passComment_9 q489 ?_
    obtain ⟨r2, e3, h⟩ := hx_bind h
    refine hs_callV0 hC 22 [] _ dX5_passComment_12 q1087 q1068 q1069 q318 q1070 np_X4 rfl OB_22 pd_X4_size (Nat.le_of_ble_eq_true rfl) hd1 (okX4_size l E A (d - 1)  (by omega) (by unfold hc_by; decide) e3 am1) rfl ?_
    refine hr_icmp_ge (x := _) hC 46 dX5_passComment_15 (by decide) (fun c7 => ?_) (fun c7 => ?_)
    · rw [if_pos c7] at h
      obtain rfl := Option.some.inj h
      exact hr_sub _ rfl (JX)
    · rw [if_neg c7] at h
      refine hr_aload_n hC dX5_passComment_18 rfl ?_
      refine hr_iload_n hC dX5_passComment_19 rfl ?_
      obtain ⟨r8, e9, h⟩ := hx_bind h
      refine hs_callV0 hC 5 [_] _ dX5_passComment_20 q1083 q1085 qs1 q319 q1086 np_X5 rfl OB_5 pd_X5_look (Nat.le_of_ble_eq_true rfl) hd1 (okX5_look l E A (d - 1)  (by omega)  e9 am1) rfl ?_
      refine hr_bipush (v := 42) hC dX5_passComment_23 rfl ?_
      refine hr_icmp_ne (x := _) hC 40 dX5_passComment_25 (by decide) (fun c13 => ?_) (fun c13 => ?_)
      · rw [if_neg c13] at h
        refine hr_iinc (v := y1 + 1) hC dX5_passComment_40 rfl rfl (by decide) ?_
        refine hr_goto hC 2 dX5_passComment_43 (by decide) ?_
        exact hr_sub _ rfl (ih _ _ _ am1 h JX)
      · rw [if_pos c13] at h
        refine hr_aload_n hC dX5_passComment_28 rfl ?_
        refine hr_iload_n hC dX5_passComment_29 rfl ?_
        refine hr_iconst (v := 1) hC dX5_passComment_30 rfl ?_
        refine hr_iadd hC dX5_passComment_31 ?_
        obtain ⟨r14, e15, h⟩ := hx_bind h
        refine hs_callV0 hC 5 [_] _ dX5_passComment_32 q1083 q1085 qs1 q319 q1086 np_X5 rfl OB_5 pd_X5_look (Nat.le_of_ble_eq_true rfl) hd1 (okX5_look l E A (d - 1)  (by omega)  e15 am1) rfl ?_
        refine hr_bipush (v := 47) hC dX5_passComment_35 rfl ?_
        refine hr_icmp_eq (x := _) hC 46 dX5_passComment_37 (by decide) (fun c19 => ?_) (fun c19 => ?_)
        · rw [if_pos c19] at h
          obtain rfl := Option.some.inj h
          exact hr_sub _ rfl (JX)
        · rw [if_neg c19] at h
          refine hr_iinc (v := y1 + 1) hC dX5_passComment_40 rfl rfl (by decide) ?_
          refine hr_goto hC 2 dX5_passComment_43 (by decide) ?_
          exact hr_sub _ rfl (ih _ _ _ am1 h JX)
set_option maxRecDepth 20000 in
set_option maxHeartbeats 4000000 in
theorem okX5_passComment (l : Launch) (E : hc_E) (A : Nat → Prop) (d : Nat) (n : Nat) (hD : 3 ≤ d)  {σ : hc_St} {r : (Int32 × hc_St)} (h : fm_X5_passComment n  σ = some r) (am : Nat → Nat → Nat) : hc_M l hc_V0 yX5_passComment (ws_ yX5_passComment cX5_passComment 3 (some .boolean)) d E A [.ref (E.2.1 5)] am [] σ (.inl (some (.int r.1))) r.2 := by
  have hd1 : 1 ≤ d := by omega
  refine hc_enter2 (own := RX5) [(0, .ref (E.2.1 5))] pl_X5 rfl hc_V0_st hc_G0_nd rfl (Nat.le_of_ble_eq_true rfl) (fun X hC hem => ?_)
  unfold fm_X5_passComment at h
  refine hr_iconst (v := 2) hC dX5_passComment_0 rfl ?_
  refine hr_istore_n hC dX5_passComment_1 (by decide) ?_
  obtain ⟨r20, e21, h⟩ := hx_bind h
  refine hr_sub _ rfl (ll_X5_passComment_2 n hD hem hC n _ _ _ am e21 ?_)
  refine hr_aload_n hC dX5_passComment_46 rfl ?_
  refine hr_gI hC F5_5 dX5_passComment_47 q490 ?_
  refine hr_iload_n hC dX5_passComment_50 rfl ?_
  refine hr_iadd hC dX5_passComment_51 ?_
  refine hr_aload_n hC dX5_passComment_52 rfl ?_
  obtain ⟨c25, h⟩ := hk_ok h
  refine hr_g6 22 hC F5_4 rfl (of_decide_eq_true c25) dX5_passComment_53 q489 ?_
  obtain ⟨r26, e27, h⟩ := hx_bind h
  refine hs_callV0 hC 22 [] _ dX5_passComment_56 q1087 q1068 q1069 q318 q1070 np_X4 rfl OB_22 pd_X4_size (Nat.le_of_ble_eq_true rfl) hd1 (okX4_size l E A (d - 1)  (by omega) (by unfold hc_by; decide) e27 am) rfl ?_
  obtain ⟨v32, hv32, h⟩ := hl_ok h
  have J41 : ∀ w42 : Int32, (if r26 ≤ (((gI σ 5 5)) + r20) then 0 else 1) = w42 → hc_At hc_V0 E 3 X 67 [(0, .ref (E.2.1 5)), (1, .int r20)] [.int w42] σ am [] := by
    intro w42 hw42
    obtain rfl := hv32.trans hw42
    refine hr_istore_n hC dX5_passComment_67 (by decide) ?_
    refine hr_aload_n hC dX5_passComment_68 rfl ?_
    refine hr_dup hC dX5_passComment_69 rfl ?_
    refine hr_gI hC F5_5 dX5_passComment_70 q490 ?_
    refine hr_iload_n hC dX5_passComment_73 rfl ?_
    obtain ⟨v35, hv35, h⟩ := hl_ok h
    have J38 : ∀ w39 : Int32, (if v32 = 0 then 0 else (r20 + 2)) = w39 → hc_At hc_V0 E 3 X 84 [(2, .int v32)] [.int w39, .int (gI σ 5 5), .ref (E.2.1 5)] σ am [] := by
      intro w39 hw39
      obtain rfl := hv35.trans hw39
      refine hr_iadd hC dX5_passComment_84 ?_
      obtain ⟨σ36, hσ36, h⟩ := hl_ok h
      refine hr_pI hC F5_5 PX5_5 dX5_passComment_85 q490 ?_
      rw [← hσ36]
      refine hr_iload_n hC dX5_passComment_88 rfl ?_
      obtain ⟨c37, h⟩ := hk_ok h
      obtain rfl := Option.some.inj h
      exact hr_zret hC (hb01_n c37) dX5_passComment_89
    refine hr_if_eq (x := _) hC 83 dX5_passComment_74 (by decide) (fun c40 => ?_) (fun c40 => ?_)
    · refine hr_iconst (v := 0) hC dX5_passComment_83 rfl ?_
      exact hr_sub _ rfl (J38 _ (by first | (rw [if_pos c40]; done) | (simp only [if_pos c40]; done) | rfl))
    · refine hr_iload_n hC dX5_passComment_77 rfl ?_
      refine hr_iconst (v := 2) hC dX5_passComment_78 rfl ?_
      refine hr_iadd hC dX5_passComment_79 ?_
      refine hr_goto hC 84 dX5_passComment_80 (by decide) ?_
      exact hr_sub _ rfl (J38 _ (by first | (rw [if_neg c40]; done) | (simp only [if_neg c40]; done) | rfl))
  refine hr_icmp_ge (x := _) hC 66 dX5_passComment_59 (by decide) (fun c43 => ?_) (fun c43 => ?_)
  · refine hr_iconst (v := 0) hC dX5_passComment_66 rfl ?_
    exact hr_sub _ rfl (J41 _ (by first | (rw [if_pos c43]; done) | (simp only [if_pos c43]; done) | rfl))
  · refine hr_iconst (v := 1) hC dX5_passComment_62 rfl ?_
    refine hr_goto hC 67 dX5_passComment_63 (by decide) ?_
    exact hr_sub _ rfl (J41 _ (by first | (rw [if_neg c43]; done) | (simp only [if_neg c43]; done) | rfl))
def lp_X5_skip_75 (n : Nat) : Nat → Int32 → Int32 → hc_St → Option (hc_St)
  | 0, _, _, _ => none
  | m + 1, y1, y2, σ => hk (decide (gI σ 5 4 ≠ 0)) <| Option.bind (fm_X4_size 22 σ) fun r80 => if r80 ≤ (gI σ 5 5) then (some (σ)) else (Option.bind (fm_X5_look 0 σ) fun r86 => if r86 = 10 then (some (σ)) else (hl (pI σ 5 5 ((((gI σ 5 5)) + 1))) fun σ92 => lp_X5_skip_75 n m y1 y2 σ92))
def lp_X5_skip_4 (n : Nat) : Nat → Int32 → Int32 → hc_St → Option (hc_St × Int32)
  | 0, _, _, _ => none
  | m + 1, y1, y2, σ => if y1 = 0 then (some (σ, y2)) else (Option.bind (fm_X5_look 0 σ) fun r3 => hl (pI σ 5 7 ((gI σ 5 5))) fun σ7 => Option.bind (α := hc_St × Int32 × Int32) (if r3 = 32 then (hl (pI σ7 5 5 ((((gI σ7 5 5)) + 1))) fun σ14 => some (σ14, y1, y2)) else (if r3 = 9 then (hl (pI σ7 5 5 ((((gI σ7 5 5)) + 1))) fun σ17 => some (σ17, y1, y2)) else (if r3 = 10 then (hl (pI σ7 5 5 ((((gI σ7 5 5)) + 1))) fun σ20 => some (σ20, y1, y2)) else (if r3 = 13 then (hl (pI σ7 5 5 ((((gI σ7 5 5)) + 1))) fun σ98 => some (σ98, y1, y2)) else (if r3 = 47 then (Option.bind (fm_X5_look 1 σ7) fun r49 => if r49 = 47 then (Option.bind (lp_X5_skip_75 n n y1 y2 σ7) fun r93 => some (r93, y1, y2)) else (if r3 = 47 then (Option.bind (fm_X5_look 1 σ7) fun r57 => if r57 = 42 then (Option.bind (fm_X5_passComment n σ7) fun r63 => hl (α := Int32) ((if r63.1 = 0 then 1 else 0)) fun v69 => hl (α := Int32) ((if v69 = 0 then 1 else 0)) fun v72 => some (r63.2, v72, v69)) else (some (σ7, 0, y2))) else (some (σ7, 0, y2)))) else (if r3 = 47 then (Option.bind (fm_X5_look 1 σ7) fun r27 => if r27 = 42 then (Option.bind (fm_X5_passComment n σ7) fun r33 => hl (α := Int32) ((if r33.1 = 0 then 1 else 0)) fun v39 => hl (α := Int32) ((if v39 = 0 then 1 else 0)) fun v42 => some (r33.2, v42, v39)) else (some (σ7, 0, y2))) else (some (σ7, 0, y2)))))))) fun r10 => lp_X5_skip_4 n m r10.2.1 r10.2.2 r10.1)
/-- HomeCompiler$Scanner.skip()Z -/
def fm_X5_skip (n : Nat)  (σ : hc_St) : Option (Int32 × hc_St) := Option.bind (lp_X5_skip_4 n n 1 0 σ) fun r99 => hk (hb01 r99.2) <| some (r99.2, r99.1)
set_option maxRecDepth 20000 in
set_option maxHeartbeats 4000000 in
theorem ll_X5_skip_75 {l : Launch} {E : hc_E} {A : Nat → Prop} {am : Nat → Nat → Nat} {d : Nat} {X : hc_X} (n : Nat) (hD : 4 ≤ d) (hem : X.2.2.2.2.2.2.2.2.2.1.exceptionTable.isEmpty = true) {oc : hc_Oc} {σe : hc_St} (hC : hc_C hc_V0 E cX5_skip 4 RX5 (some .boolean) d oc σe (l, A, am, []) X) : ∀ (m : Nat) (σ : hc_St) (y1 : Int32) (y2 : Int32) (rl : hc_St) (am1 : Nat → Nat → Nat), lp_X5_skip_75 n m y1 y2 σ = some rl → (hc_At hc_V0 E 4 X 156 [(0, .ref (E.2.1 5)), (1, .int y1), (2, .int y2)] [] rl am1 []) → hc_At hc_V0 E 4 X 75 [(0, .ref (E.2.1 5)), (1, .int y1), (2, .int y2)] [] σ am1 [] := by
  have hd1 : 1 ≤ d := by omega
  intro m
  induction m with
  | zero =>
    intro σ y1 y2 rl am1 h
    cases h
  | succ m ih =>
    intro σ y1 y2 rl am1 h JX
    rw [lp_X5_skip_75] at h
    refine hr_aload_n hC dX5_skip_75 rfl ?_
    refine hr_gI hC F5_5 dX5_skip_76 q490 ?_
    refine hr_aload_n hC dX5_skip_79 rfl ?_
    obtain ⟨c79, h⟩ := hk_ok h
    refine hr_g6 22 hC F5_4 rfl (of_decide_eq_true c79) dX5_skip_80 q489 ?_
    obtain ⟨r80, e81, h⟩ := hx_bind h
    refine hs_callV0 hC 22 [] _ dX5_skip_83 q1087 q1068 q1069 q318 q1070 np_X4 rfl OB_22 pd_X4_size (Nat.le_of_ble_eq_true rfl) hd1 (okX4_size l E A (d - 1)  (by omega) (by unfold hc_by; decide) e81 am1) rfl ?_
    refine hr_icmp_ge (x := _) hC 156 dX5_skip_86 (by decide) (fun c85 => ?_) (fun c85 => ?_)
    · rw [if_pos c85] at h
      obtain rfl := Option.some.inj h
      exact hr_sub _ rfl (JX)
    · rw [if_neg c85] at h
      refine hr_aload_n hC dX5_skip_89 rfl ?_
      refine hr_iconst (v := 0) hC dX5_skip_90 rfl ?_
      obtain ⟨r86, e87, h⟩ := hx_bind h
      refine hs_callV0 hC 5 [_] _ dX5_skip_91 q1083 q1085 qs1 q319 q1086 np_X5 rfl OB_5 pd_X5_look (Nat.le_of_ble_eq_true rfl) hd1 (okX5_look l E A (d - 1)  (by omega)  e87 am1) rfl ?_
      refine hr_bipush (v := 10) hC dX5_skip_94 rfl ?_
      refine hr_icmp_eq (x := _) hC 156 dX5_skip_96 (by decide) (fun c91 => ?_) (fun c91 => ?_)
      · rw [if_pos c91] at h
        obtain rfl := Option.some.inj h
        exact hr_sub _ rfl (JX)
      · rw [if_neg c91] at h
        refine hr_aload_n hC dX5_skip_99 rfl ?_
        refine hr_dup hC dX5_skip_100 rfl ?_
        refine hr_gI hC F5_5 dX5_skip_101 q490 ?_
        refine hr_iconst (v := 1) hC dX5_skip_104 rfl ?_
        refine hr_iadd hC dX5_skip_105 ?_
        obtain ⟨σ92, hσ92, h⟩ := hl_ok h
        refine hr_pI hC F5_5 PX5_5 dX5_skip_106 q490 ?_
        rw [← hσ92]
        refine hr_goto hC 75 dX5_skip_109 (by decide) ?_
        exact hr_sub _ rfl (ih _ _ _ _ am1 h JX)
set_option maxRecDepth 20000 in
set_option maxHeartbeats 4000000 in
theorem ll_X5_skip_4 {l : Launch} {E : hc_E} {A : Nat → Prop} {am : Nat → Nat → Nat} {d : Nat} {X : hc_X} (n : Nat) (hD : 4 ≤ d) (hem : X.2.2.2.2.2.2.2.2.2.1.exceptionTable.isEmpty = true) {oc : hc_Oc} {σe : hc_St} (hC : hc_C hc_V0 E cX5_skip 4 RX5 (some .boolean) d oc σe (l, A, am, []) X) : ∀ (m : Nat) (σ : hc_St) (y1 : Int32) (y2 : Int32) (rl : hc_St × Int32) (am1 : Nat → Nat → Nat), lp_X5_skip_4 n m y1 y2 σ = some rl → (hc_At hc_V0 E 4 X 159 [(2, .int rl.2)] [] rl.1 am1 []) → hc_At hc_V0 E 4 X 4 [(0, .ref (E.2.1 5)), (1, .int y1), (2, .int y2)] [] σ am1 [] := by
  have hd1 : 1 ≤ d := by omega
  intro m
  induction m with
  | zero =>
    intro σ y1 y2 rl am1 h
    cases h
  | succ m ih =>
    intro σ y1 y2 rl am1 h JX
    rw [lp_X5_skip_4] at h
    refine hr_iload_n hC dX5_skip_4 rfl ?_
    refine hr_if_eq (x := _) hC 159 dX5_skip_5 (by decide) (fun c2 => ?_) (fun c2 => ?_)
    · rw [if_pos c2] at h
      obtain rfl := Option.some.inj h
      exact hr_sub _ rfl (JX)
    · rw [if_neg c2] at h
      refine hr_aload_n hC dX5_skip_8 rfl ?_
      refine hr_iconst (v := 0) hC dX5_skip_9 rfl ?_
      obtain ⟨r3, e4, h⟩ := hx_bind h
      refine hs_callV0 hC 5 [_] _ dX5_skip_10 q1083 q1085 qs1 q319 q1086 np_X5 rfl OB_5 pd_X5_look (Nat.le_of_ble_eq_true rfl) hd1 (okX5_look l E A (d - 1)  (by omega)  e4 am1) rfl ?_
      refine hr_istore_n hC dX5_skip_13 (by decide) ?_
      refine hr_aload_n hC dX5_skip_14 rfl ?_
      refine hr_aload_n hC dX5_skip_15 rfl ?_
      refine hr_gI hC F5_5 dX5_skip_16 q490 ?_
      obtain ⟨σ7, hσ7, h⟩ := hl_ok h
      refine hr_pI hC F5_7 PX5_7 dX5_skip_19 q492 ?_
      rw [← hσ7]
      refine hr_iload_n hC dX5_skip_22 rfl ?_
      refine hr_bipush (v := 32) hC dX5_skip_23 rfl ?_
      obtain ⟨r10, e11, h⟩ := hx_bind h
      have J12 : hc_At hc_V0 E 4 X 156 [(0, .ref (E.2.1 5)), (1, .int r10.2.1), (2, .int r10.2.2)] [] r10.1 am1 [] := by
        refine hr_goto hC 4 dX5_skip_156 (by decide) ?_
        exact hr_sub _ rfl (ih _ _ _ _ am1 h JX)
      clear h
      have h := e11
      refine hr_icmp_eq (x := _) hC 46 dX5_skip_25 (by decide) (fun c9 => ?_) (fun c9 => ?_)
      · rw [if_pos c9] at h
        refine hr_aload_n hC dX5_skip_46 rfl ?_
        refine hr_dup hC dX5_skip_47 rfl ?_
        refine hr_gI hC F5_5 dX5_skip_48 q490 ?_
        refine hr_iconst (v := 1) hC dX5_skip_51 rfl ?_
        refine hr_iadd hC dX5_skip_52 ?_
        obtain ⟨σ14, hσ14, h⟩ := hl_ok h
        refine hr_pI hC F5_5 PX5_5 dX5_skip_53 q490 ?_
        rw [← hσ14]
        refine hr_goto hC 156 dX5_skip_56 (by decide) ?_
        obtain rfl := Option.some.inj h
        exact hr_sub _ rfl (J12)
      · rw [if_neg c9] at h
        refine hr_iload_n hC dX5_skip_28 rfl ?_
        refine hr_bipush (v := 9) hC dX5_skip_29 rfl ?_
        refine hr_icmp_eq (x := _) hC 46 dX5_skip_31 (by decide) (fun c16 => ?_) (fun c16 => ?_)
        · rw [if_pos c16] at h
          refine hr_aload_n hC dX5_skip_46 rfl ?_
          refine hr_dup hC dX5_skip_47 rfl ?_
          refine hr_gI hC F5_5 dX5_skip_48 q490 ?_
          refine hr_iconst (v := 1) hC dX5_skip_51 rfl ?_
          refine hr_iadd hC dX5_skip_52 ?_
          obtain ⟨σ17, hσ17, h⟩ := hl_ok h
          refine hr_pI hC F5_5 PX5_5 dX5_skip_53 q490 ?_
          rw [← hσ17]
          refine hr_goto hC 156 dX5_skip_56 (by decide) ?_
          obtain rfl := Option.some.inj h
          exact hr_sub _ rfl (J12)
        · rw [if_neg c16] at h
          refine hr_iload_n hC dX5_skip_34 rfl ?_
          refine hr_bipush (v := 10) hC dX5_skip_35 rfl ?_
          refine hr_icmp_eq (x := _) hC 46 dX5_skip_37 (by decide) (fun c19 => ?_) (fun c19 => ?_)
          · rw [if_pos c19] at h
            refine hr_aload_n hC dX5_skip_46 rfl ?_
            refine hr_dup hC dX5_skip_47 rfl ?_
            refine hr_gI hC F5_5 dX5_skip_48 q490 ?_
            refine hr_iconst (v := 1) hC dX5_skip_51 rfl ?_
            refine hr_iadd hC dX5_skip_52 ?_
            obtain ⟨σ20, hσ20, h⟩ := hl_ok h
            refine hr_pI hC F5_5 PX5_5 dX5_skip_53 q490 ?_
            rw [← hσ20]
            refine hr_goto hC 156 dX5_skip_56 (by decide) ?_
            obtain rfl := Option.some.inj h
            exact hr_sub _ rfl (J12)
          · rw [if_neg c19] at h
            refine hr_iload_n hC dX5_skip_40 rfl ?_
            refine hr_bipush (v := 13) hC dX5_skip_41 rfl ?_
            refine hr_icmp_ne (x := _) hC 59 dX5_skip_43 (by decide) (fun c22 => ?_) (fun c22 => ?_)
            · rw [if_neg c22] at h
              refine hr_iload_n hC dX5_skip_59 rfl ?_
              refine hr_bipush (v := 47) hC dX5_skip_60 rfl ?_
              refine hr_icmp_ne (x := _) hC 112 dX5_skip_62 (by decide) (fun c24 => ?_) (fun c24 => ?_)
              · rw [if_neg c24] at h
                refine hr_iload_n hC dX5_skip_112 rfl ?_
                refine hr_bipush (v := 47) hC dX5_skip_113 rfl ?_
                refine hr_icmp_ne (x := _) hC 154 dX5_skip_115 (by decide) (fun c26 => ?_) (fun c26 => ?_)
                · rw [if_neg c26] at h
                  refine hr_iconst (v := 0) hC dX5_skip_154 rfl ?_
                  refine hr_istore_n hC dX5_skip_155 (by decide) ?_
                  obtain rfl := Option.some.inj h
                  exact hr_sub _ rfl (J12)
                · rw [if_pos c26] at h
                  refine hr_aload_n hC dX5_skip_118 rfl ?_
                  refine hr_iconst (v := 1) hC dX5_skip_119 rfl ?_
                  obtain ⟨r27, e28, h⟩ := hx_bind h
                  refine hs_callV0 hC 5 [_] _ dX5_skip_120 q1083 q1085 qs1 q319 q1086 np_X5 rfl OB_5 pd_X5_look (Nat.le_of_ble_eq_true rfl) hd1 (okX5_look l E A (d - 1)  (by omega)  e28 am1) rfl ?_
                  refine hr_bipush (v := 42) hC dX5_skip_123 rfl ?_
                  refine hr_icmp_ne (x := _) hC 154 dX5_skip_125 (by decide) (fun c32 => ?_) (fun c32 => ?_)
                  · rw [if_neg c32] at h
                    refine hr_iconst (v := 0) hC dX5_skip_154 rfl ?_
                    refine hr_istore_n hC dX5_skip_155 (by decide) ?_
                    obtain rfl := Option.some.inj h
                    exact hr_sub _ rfl (J12)
                  · rw [if_pos c32] at h
                    refine hr_aload_n hC dX5_skip_128 rfl ?_
                    obtain ⟨r33, e34, h⟩ := hx_bind h
                    refine hs_callV0 hC 5 [] _ dX5_skip_129 q1092 q1094 qs2 q319 q1095 np_X5 rfl OB_5 pd_X5_passComment (Nat.le_of_ble_eq_true rfl) hd1 (okX5_passComment l E A (d - 1) n (by omega)  e34 am1) rfl ?_
                    obtain ⟨v39, hv39, h⟩ := hl_ok h
                    have J46 : ∀ w47 : Int32, (if r33.1 = 0 then 1 else 0) = w47 → hc_At hc_V0 E 4 X 140 [(0, .ref (E.2.1 5))] [.int w47] r33.2 am1 [] := by
                      intro w47 hw47
                      obtain rfl := hv39.trans hw47
                      refine hr_istore_n hC dX5_skip_140 (by decide) ?_
                      refine hr_iload_n hC dX5_skip_141 rfl ?_
                      obtain ⟨v42, hv42, h⟩ := hl_ok h
                      have J43 : ∀ w44 : Int32, (if v39 = 0 then 1 else 0) = w44 → hc_At hc_V0 E 4 X 150 [(0, .ref (E.2.1 5)), (2, .int v39)] [.int w44] r33.2 am1 [] := by
                        intro w44 hw44
                        obtain rfl := hv42.trans hw44
                        refine hr_istore_n hC dX5_skip_150 (by decide) ?_
                        refine hr_goto hC 156 dX5_skip_151 (by decide) ?_
                        obtain rfl := Option.some.inj h
                        exact hr_sub _ rfl (J12)
                      refine hr_if_ne (x := _) hC 149 dX5_skip_142 (by decide) (fun c45 => ?_) (fun c45 => ?_)
                      · refine hr_iconst (v := 0) hC dX5_skip_149 rfl ?_
                        exact hr_sub _ rfl (J43 _ (by first | (rw [if_neg c45]; done) | (simp only [if_neg c45]; done) | rfl))
                      · refine hr_iconst (v := 1) hC dX5_skip_145 rfl ?_
                        refine hr_goto hC 150 dX5_skip_146 (by decide) ?_
                        exact hr_sub _ rfl (J43 _ (by first | (rw [if_pos c45]; done) | (simp only [if_pos c45]; done) | rfl))
                    refine hr_if_ne (x := _) hC 139 dX5_skip_132 (by decide) (fun c48 => ?_) (fun c48 => ?_)
                    · refine hr_iconst (v := 0) hC dX5_skip_139 rfl ?_
                      exact hr_sub _ rfl (J46 _ (by first | (rw [if_neg c48]; done) | (simp only [if_neg c48]; done) | rfl))
                    · refine hr_iconst (v := 1) hC dX5_skip_135 rfl ?_
                      refine hr_goto hC 140 dX5_skip_136 (by decide) ?_
                      exact hr_sub _ rfl (J46 _ (by first | (rw [if_pos c48]; done) | (simp only [if_pos c48]; done) | rfl))
              · rw [if_pos c24] at h
                refine hr_aload_n hC dX5_skip_65 rfl ?_
                refine hr_iconst (v := 1) hC dX5_skip_66 rfl ?_
                obtain ⟨r49, e50, h⟩ := hx_bind h
                refine hs_callV0 hC 5 [_] _ dX5_skip_67 q1083 q1085 qs1 q319 q1086 np_X5 rfl OB_5 pd_X5_look (Nat.le_of_ble_eq_true rfl) hd1 (okX5_look l E A (d - 1)  (by omega)  e50 am1) rfl ?_
                refine hr_bipush (v := 47) hC dX5_skip_70 rfl ?_
                refine hr_icmp_ne (x := _) hC 112 dX5_skip_72 (by decide) (fun c54 => ?_) (fun c54 => ?_)
                · rw [if_neg c54] at h
                  refine hr_iload_n hC dX5_skip_112 rfl ?_
                  refine hr_bipush (v := 47) hC dX5_skip_113 rfl ?_
                  refine hr_icmp_ne (x := _) hC 154 dX5_skip_115 (by decide) (fun c56 => ?_) (fun c56 => ?_)
                  · rw [if_neg c56] at h
                    refine hr_iconst (v := 0) hC dX5_skip_154 rfl ?_
                    refine hr_istore_n hC dX5_skip_155 (by decide) ?_
                    obtain rfl := Option.some.inj h
                    exact hr_sub _ rfl (J12)
                  · rw [if_pos c56] at h
                    refine hr_aload_n hC dX5_skip_118 rfl ?_
                    refine hr_iconst (v := 1) hC dX5_skip_119 rfl ?_
                    obtain ⟨r57, e58, h⟩ := hx_bind h
                    refine hs_callV0 hC 5 [_] _ dX5_skip_120 q1083 q1085 qs1 q319 q1086 np_X5 rfl OB_5 pd_X5_look (Nat.le_of_ble_eq_true rfl) hd1 (okX5_look l E A (d - 1)  (by omega)  e58 am1) rfl ?_
                    refine hr_bipush (v := 42) hC dX5_skip_123 rfl ?_
                    refine hr_icmp_ne (x := _) hC 154 dX5_skip_125 (by decide) (fun c62 => ?_) (fun c62 => ?_)
                    · rw [if_neg c62] at h
                      refine hr_iconst (v := 0) hC dX5_skip_154 rfl ?_
                      refine hr_istore_n hC dX5_skip_155 (by decide) ?_
                      obtain rfl := Option.some.inj h
                      exact hr_sub _ rfl (J12)
                    · rw [if_pos c62] at h
                      refine hr_aload_n hC dX5_skip_128 rfl ?_
                      obtain ⟨r63, e64, h⟩ := hx_bind h
                      refine hs_callV0 hC 5 [] _ dX5_skip_129 q1092 q1094 qs2 q319 q1095 np_X5 rfl OB_5 pd_X5_passComment (Nat.le_of_ble_eq_true rfl) hd1 (okX5_passComment l E A (d - 1) n (by omega)  e64 am1) rfl ?_
                      obtain ⟨v69, hv69, h⟩ := hl_ok h
                      have J76 : ∀ w77 : Int32, (if r63.1 = 0 then 1 else 0) = w77 → hc_At hc_V0 E 4 X 140 [(0, .ref (E.2.1 5))] [.int w77] r63.2 am1 [] := by
                        intro w77 hw77
                        obtain rfl := hv69.trans hw77
                        refine hr_istore_n hC dX5_skip_140 (by decide) ?_
                        refine hr_iload_n hC dX5_skip_141 rfl ?_
                        obtain ⟨v72, hv72, h⟩ := hl_ok h
                        have J73 : ∀ w74 : Int32, (if v69 = 0 then 1 else 0) = w74 → hc_At hc_V0 E 4 X 150 [(0, .ref (E.2.1 5)), (2, .int v69)] [.int w74] r63.2 am1 [] := by
                          intro w74 hw74
                          obtain rfl := hv72.trans hw74
                          refine hr_istore_n hC dX5_skip_150 (by decide) ?_
                          refine hr_goto hC 156 dX5_skip_151 (by decide) ?_
                          obtain rfl := Option.some.inj h
                          exact hr_sub _ rfl (J12)
                        refine hr_if_ne (x := _) hC 149 dX5_skip_142 (by decide) (fun c75 => ?_) (fun c75 => ?_)
                        · refine hr_iconst (v := 0) hC dX5_skip_149 rfl ?_
                          exact hr_sub _ rfl (J73 _ (by first | (rw [if_neg c75]; done) | (simp only [if_neg c75]; done) | rfl))
                        · refine hr_iconst (v := 1) hC dX5_skip_145 rfl ?_
                          refine hr_goto hC 150 dX5_skip_146 (by decide) ?_
                          exact hr_sub _ rfl (J73 _ (by first | (rw [if_pos c75]; done) | (simp only [if_pos c75]; done) | rfl))
                      refine hr_if_ne (x := _) hC 139 dX5_skip_132 (by decide) (fun c78 => ?_) (fun c78 => ?_)
                      · refine hr_iconst (v := 0) hC dX5_skip_139 rfl ?_
                        exact hr_sub _ rfl (J76 _ (by first | (rw [if_neg c78]; done) | (simp only [if_neg c78]; done) | rfl))
                      · refine hr_iconst (v := 1) hC dX5_skip_135 rfl ?_
                        refine hr_goto hC 140 dX5_skip_136 (by decide) ?_
                        exact hr_sub _ rfl (J76 _ (by first | (rw [if_pos c78]; done) | (simp only [if_pos c78]; done) | rfl))
                · rw [if_pos c54] at h
                  obtain ⟨r93, e94, h⟩ := hx_bind h
                  refine hr_sub _ rfl (ll_X5_skip_75 n hD hem hC n _ _ _ _ am1 e94 ?_)
                  obtain rfl := Option.some.inj h
                  exact hr_sub _ rfl (J12)
            · rw [if_pos c22] at h
              refine hr_aload_n hC dX5_skip_46 rfl ?_
              refine hr_dup hC dX5_skip_47 rfl ?_
              refine hr_gI hC F5_5 dX5_skip_48 q490 ?_
              refine hr_iconst (v := 1) hC dX5_skip_51 rfl ?_
              refine hr_iadd hC dX5_skip_52 ?_
              obtain ⟨σ98, hσ98, h⟩ := hl_ok h
              refine hr_pI hC F5_5 PX5_5 dX5_skip_53 q490 ?_
              rw [← hσ98]
              refine hr_goto hC 156 dX5_skip_56 (by decide) ?_
              obtain rfl := Option.some.inj h
              exact hr_sub _ rfl (J12)
set_option maxRecDepth 20000 in
set_option maxHeartbeats 4000000 in
theorem okX5_skip (l : Launch) (E : hc_E) (A : Nat → Prop) (d : Nat) (n : Nat) (hD : 4 ≤ d)  {σ : hc_St} {r : (Int32 × hc_St)} (h : fm_X5_skip n  σ = some r) (am : Nat → Nat → Nat) : hc_M l hc_V0 yX5_skip (ws_ yX5_skip cX5_skip 4 (some .boolean)) d E A [.ref (E.2.1 5)] am [] σ (.inl (some (.int r.1))) r.2 := by
  have hd1 : 1 ≤ d := by omega
  refine hc_enter2 (own := RX5) [(0, .ref (E.2.1 5))] pl_X5 rfl hc_V0_st hc_G0_nd rfl (Nat.le_of_ble_eq_true rfl) (fun X hC hem => ?_)
  unfold fm_X5_skip at h
  refine hr_iconst (v := 1) hC dX5_skip_0 rfl ?_
  refine hr_istore_n hC dX5_skip_1 (by decide) ?_
  refine hr_iconst (v := 0) hC dX5_skip_2 rfl ?_
  refine hr_istore_n hC dX5_skip_3 (by decide) ?_
  obtain ⟨r99, e100, h⟩ := hx_bind h
  refine hr_sub _ rfl (ll_X5_skip_4 n hD hem hC n _ _ _ _ am e100 ?_)
  refine hr_iload_n hC dX5_skip_159 rfl ?_
  obtain ⟨c104, h⟩ := hk_ok h
  obtain rfl := Option.some.inj h
  exact hr_zret hC (hb01_n c104) dX5_skip_160
/-- HomeCompiler$Scanner.isLetter(I)Z -/
def fm_X5_isLetter  (x0 : Int32) (σ : hc_St) : Option Int32 := hl (α := Int32) ((if x0 < 97 then (if x0 < 65 then (if x0 = 95 then 1 else 0) else (if x0 ≤ 90 then 1 else (if x0 = 95 then 1 else 0))) else (if x0 ≤ 122 then 1 else (if x0 < 65 then (if x0 = 95 then 1 else 0) else (if x0 ≤ 90 then 1 else (if x0 = 95 then 1 else 0)))))) fun v3 => hk (hb01 v3) <| some v3
set_option maxRecDepth 20000 in
set_option maxHeartbeats 4000000 in
theorem okX5_isLetter (l : Launch) (E : hc_E) (A : Nat → Prop) (d : Nat)  (hD : 1 ≤ d) {x0 : Int32} {σ : hc_St} {r : Int32} (h : fm_X5_isLetter  x0 σ = some r) (am : Nat → Nat → Nat) : hc_M l hc_V0 yX5_isLetter (ws_ yX5_isLetter cX5_isLetter 1 (some .boolean)) d E A [.int x0] am [] σ (.inl (some (.int r))) σ := by
  have hd1 : 1 ≤ d := by omega
  refine hc_enter2 (own := RX5) [(0, .int x0)] pl_X5 rfl hc_V0_st hc_G0_nd rfl (Nat.le_of_ble_eq_true rfl) (fun X hC hem => ?_)
  unfold fm_X5_isLetter at h
  refine hr_iload_n hC dX5_isLetter_0 rfl ?_
  refine hr_bipush (v := 97) hC dX5_isLetter_1 rfl ?_
  obtain ⟨v3, hv3, h⟩ := hl_ok h
  have J5 : ∀ w6 : Int32, (if x0 < 97 then (if x0 < 65 then (if x0 = 95 then 1 else 0) else (if x0 ≤ 90 then 1 else (if x0 = 95 then 1 else 0))) else (if x0 ≤ 122 then 1 else (if x0 < 65 then (if x0 = 95 then 1 else 0) else (if x0 ≤ 90 then 1 else (if x0 = 95 then 1 else 0))))) = w6 → hc_At hc_V0 E 1 X 35 [] [.int w6] σ am [] := by
    intro w6 hw6
    obtain rfl := hv3.trans hw6
    obtain ⟨c4, h⟩ := hk_ok h
    obtain rfl := Option.some.inj h
    exact hr_zret hC (hb01_n c4) dX5_isLetter_35
  refine hr_icmp_lt (x := _) hC 12 dX5_isLetter_3 (by decide) (fun c7 => ?_) (fun c7 => ?_)
  · refine hr_iload_n hC dX5_isLetter_12 rfl ?_
    refine hr_bipush (v := 65) hC dX5_isLetter_13 rfl ?_
    refine hr_icmp_lt (x := _) hC 24 dX5_isLetter_15 (by decide) (fun c8 => ?_) (fun c8 => ?_)
    · refine hr_iload_n hC dX5_isLetter_24 rfl ?_
      refine hr_bipush (v := 95) hC dX5_isLetter_25 rfl ?_
      refine hr_icmp_ne (x := _) hC 34 dX5_isLetter_27 (by decide) (fun c9 => ?_) (fun c9 => ?_)
      · refine hr_iconst (v := 0) hC dX5_isLetter_34 rfl ?_
        exact hr_sub _ rfl (J5 _ (by first | (rw [if_pos c7, if_pos c8, if_neg c9]; done) | (simp only [if_pos c7, if_pos c8, if_neg c9]; done) | rfl))
      · refine hr_iconst (v := 1) hC dX5_isLetter_30 rfl ?_
        refine hr_goto hC 35 dX5_isLetter_31 (by decide) ?_
        exact hr_sub _ rfl (J5 _ (by first | (rw [if_pos c7, if_pos c8, if_pos c9]; done) | (simp only [if_pos c7, if_pos c8, if_pos c9]; done) | rfl))
    · refine hr_iload_n hC dX5_isLetter_18 rfl ?_
      refine hr_bipush (v := 90) hC dX5_isLetter_19 rfl ?_
      refine hr_icmp_le (x := _) hC 30 dX5_isLetter_21 (by decide) (fun c10 => ?_) (fun c10 => ?_)
      · refine hr_iconst (v := 1) hC dX5_isLetter_30 rfl ?_
        refine hr_goto hC 35 dX5_isLetter_31 (by decide) ?_
        exact hr_sub _ rfl (J5 _ (by first | (rw [if_pos c7, if_neg c8, if_pos c10]; done) | (simp only [if_pos c7, if_neg c8, if_pos c10]; done) | rfl))
      · refine hr_iload_n hC dX5_isLetter_24 rfl ?_
        refine hr_bipush (v := 95) hC dX5_isLetter_25 rfl ?_
        refine hr_icmp_ne (x := _) hC 34 dX5_isLetter_27 (by decide) (fun c11 => ?_) (fun c11 => ?_)
        · refine hr_iconst (v := 0) hC dX5_isLetter_34 rfl ?_
          exact hr_sub _ rfl (J5 _ (by first | (rw [if_pos c7, if_neg c8, if_neg c10, if_neg c11]; done) | (simp only [if_pos c7, if_neg c8, if_neg c10, if_neg c11]; done) | rfl))
        · refine hr_iconst (v := 1) hC dX5_isLetter_30 rfl ?_
          refine hr_goto hC 35 dX5_isLetter_31 (by decide) ?_
          exact hr_sub _ rfl (J5 _ (by first | (rw [if_pos c7, if_neg c8, if_neg c10, if_pos c11]; done) | (simp only [if_pos c7, if_neg c8, if_neg c10, if_pos c11]; done) | rfl))
  · refine hr_iload_n hC dX5_isLetter_6 rfl ?_
    refine hr_bipush (v := 122) hC dX5_isLetter_7 rfl ?_
    refine hr_icmp_le (x := _) hC 30 dX5_isLetter_9 (by decide) (fun c12 => ?_) (fun c12 => ?_)
    · refine hr_iconst (v := 1) hC dX5_isLetter_30 rfl ?_
      refine hr_goto hC 35 dX5_isLetter_31 (by decide) ?_
      exact hr_sub _ rfl (J5 _ (by first | (rw [if_neg c7, if_pos c12]; done) | (simp only [if_neg c7, if_pos c12]; done) | rfl))
    · refine hr_iload_n hC dX5_isLetter_12 rfl ?_
      refine hr_bipush (v := 65) hC dX5_isLetter_13 rfl ?_
      refine hr_icmp_lt (x := _) hC 24 dX5_isLetter_15 (by decide) (fun c13 => ?_) (fun c13 => ?_)
      · refine hr_iload_n hC dX5_isLetter_24 rfl ?_
        refine hr_bipush (v := 95) hC dX5_isLetter_25 rfl ?_
        refine hr_icmp_ne (x := _) hC 34 dX5_isLetter_27 (by decide) (fun c14 => ?_) (fun c14 => ?_)
        · refine hr_iconst (v := 0) hC dX5_isLetter_34 rfl ?_
          exact hr_sub _ rfl (J5 _ (by first | (rw [if_neg c7, if_neg c12, if_pos c13, if_neg c14]; done) | (simp only [if_neg c7, if_neg c12, if_pos c13, if_neg c14]; done) | rfl))
        · refine hr_iconst (v := 1) hC dX5_isLetter_30 rfl ?_
          refine hr_goto hC 35 dX5_isLetter_31 (by decide) ?_
          exact hr_sub _ rfl (J5 _ (by first | (rw [if_neg c7, if_neg c12, if_pos c13, if_pos c14]; done) | (simp only [if_neg c7, if_neg c12, if_pos c13, if_pos c14]; done) | rfl))
      · refine hr_iload_n hC dX5_isLetter_18 rfl ?_
        refine hr_bipush (v := 90) hC dX5_isLetter_19 rfl ?_
        refine hr_icmp_le (x := _) hC 30 dX5_isLetter_21 (by decide) (fun c15 => ?_) (fun c15 => ?_)
        · refine hr_iconst (v := 1) hC dX5_isLetter_30 rfl ?_
          refine hr_goto hC 35 dX5_isLetter_31 (by decide) ?_
          exact hr_sub _ rfl (J5 _ (by first | (rw [if_neg c7, if_neg c12, if_neg c13, if_pos c15]; done) | (simp only [if_neg c7, if_neg c12, if_neg c13, if_pos c15]; done) | rfl))
        · refine hr_iload_n hC dX5_isLetter_24 rfl ?_
          refine hr_bipush (v := 95) hC dX5_isLetter_25 rfl ?_
          refine hr_icmp_ne (x := _) hC 34 dX5_isLetter_27 (by decide) (fun c16 => ?_) (fun c16 => ?_)
          · refine hr_iconst (v := 0) hC dX5_isLetter_34 rfl ?_
            exact hr_sub _ rfl (J5 _ (by first | (rw [if_neg c7, if_neg c12, if_neg c13, if_neg c15, if_neg c16]; done) | (simp only [if_neg c7, if_neg c12, if_neg c13, if_neg c15, if_neg c16]; done) | rfl))
          · refine hr_iconst (v := 1) hC dX5_isLetter_30 rfl ?_
            refine hr_goto hC 35 dX5_isLetter_31 (by decide) ?_
            exact hr_sub _ rfl (J5 _ (by first | (rw [if_neg c7, if_neg c12, if_neg c13, if_neg c15, if_pos c16]; done) | (simp only [if_neg c7, if_neg c12, if_neg c13, if_neg c15, if_pos c16]; done) | rfl))
/-- HomeCompiler$Scanner.isDigit(I)Z -/
def fm_X5_isDigit  (x0 : Int32) (σ : hc_St) : Option Int32 := hl (α := Int32) ((if x0 < 48 then 0 else (if 57 < x0 then 0 else 1))) fun v3 => hk (hb01 v3) <| some v3
set_option maxRecDepth 20000 in
set_option maxHeartbeats 4000000 in
theorem okX5_isDigit (l : Launch) (E : hc_E) (A : Nat → Prop) (d : Nat)  (hD : 1 ≤ d) {x0 : Int32} {σ : hc_St} {r : Int32} (h : fm_X5_isDigit  x0 σ = some r) (am : Nat → Nat → Nat) : hc_M l hc_V0 yX5_isDigit (ws_ yX5_isDigit cX5_isDigit 1 (some .boolean)) d E A [.int x0] am [] σ (.inl (some (.int r))) σ := by
  have hd1 : 1 ≤ d := by omega
  refine hc_enter2 (own := RX5) [(0, .int x0)] pl_X5 rfl hc_V0_st hc_G0_nd rfl (Nat.le_of_ble_eq_true rfl) (fun X hC hem => ?_)
  unfold fm_X5_isDigit at h
  refine hr_iload_n hC dX5_isDigit_0 rfl ?_
  refine hr_bipush (v := 48) hC dX5_isDigit_1 rfl ?_
  obtain ⟨v3, hv3, h⟩ := hl_ok h
  have J5 : ∀ w6 : Int32, (if x0 < 48 then 0 else (if 57 < x0 then 0 else 1)) = w6 → hc_At hc_V0 E 1 X 17 [] [.int w6] σ am [] := by
    intro w6 hw6
    obtain rfl := hv3.trans hw6
    obtain ⟨c4, h⟩ := hk_ok h
    obtain rfl := Option.some.inj h
    exact hr_zret hC (hb01_n c4) dX5_isDigit_17
  refine hr_icmp_lt (x := _) hC 16 dX5_isDigit_3 (by decide) (fun c7 => ?_) (fun c7 => ?_)
  · refine hr_iconst (v := 0) hC dX5_isDigit_16 rfl ?_
    exact hr_sub _ rfl (J5 _ (by first | (rw [if_pos c7]; done) | (simp only [if_pos c7]; done) | rfl))
  · refine hr_iload_n hC dX5_isDigit_6 rfl ?_
    refine hr_bipush (v := 57) hC dX5_isDigit_7 rfl ?_
    refine hr_icmp_gt (x := _) hC 16 dX5_isDigit_9 (by decide) (fun c8 => ?_) (fun c8 => ?_)
    · refine hr_iconst (v := 0) hC dX5_isDigit_16 rfl ?_
      exact hr_sub _ rfl (J5 _ (by first | (rw [if_neg c7, if_pos c8]; done) | (simp only [if_neg c7, if_pos c8]; done) | rfl))
    · refine hr_iconst (v := 1) hC dX5_isDigit_12 rfl ?_
      refine hr_goto hC 17 dX5_isDigit_13 (by decide) ?_
      exact hr_sub _ rfl (J5 _ (by first | (rw [if_neg c7, if_neg c8]; done) | (simp only [if_neg c7, if_neg c8]; done) | rfl))
def lp_X2_is_18 (n : Nat) (o0 : Nat) : Nat → Int32 → Int32 → Int32 → Int32 → Int32 → hc_St → Option (Int32)
  | 0, _, _, _, _, _, _ => none
  | m + 1, y1, y2, y3, y4, y5, σ => if y2 ≤ y5 then (some (y4)) else (if y4 = 0 then (some (y4)) else (Option.bind (fm_X4_at o0 ((y1 + y5)) σ) fun r9 => hk (hsc y3 y5) <| hl (α := Int32) ((if r9 = (sCh y3 y5) then 1 else 0)) fun v16 => lp_X2_is_18 n o0 m y1 y2 y3 v16 ((y5 + 1)) σ))
/-- HomeCompiler$Words.is(LHomeCompiler$Bytes;IILjava/lang/String;)Z -/
def fm_X2_is (n : Nat) (o0 : Nat) (x1 : Int32) (x2 : Int32) (x3 : Int32) (σ : hc_St) : Option Int32 := hk (hsi x3) <| hl (α := Int32) ((if x2 = (sLen x3) then 1 else 0)) fun v4 => Option.bind (lp_X2_is_18 n o0 n x1 x2 x3 v4 0 σ) fun r20 => hk (hb01 r20) <| some r20
set_option maxRecDepth 20000 in
set_option maxHeartbeats 4000000 in
theorem ll_X2_is_18 {l : Launch} {E : hc_E} {A : Nat → Prop} {am : Nat → Nat → Nat} {d : Nat} {X : hc_X} (n : Nat) (o0 : Nat) (ho0 : hc_by o0) (hD : 9 ≤ d) (hem : X.2.2.2.2.2.2.2.2.2.1.exceptionTable.isEmpty = true) {oc : hc_Oc} {σe : hc_St} (hC : hc_C hc_V0 E cX2_is 6 RX2 (some .boolean) d oc σe (l, A, am, []) X) : ∀ (m : Nat) (σ : hc_St) (y1 : Int32) (y2 : Int32) (y3 : Int32) (y4 : Int32) (y5 : Int32) (rl : Int32) (am1 : Nat → Nat → Nat), lp_X2_is_18 n o0 m y1 y2 y3 y4 y5 σ = some rl → (hc_At hc_V0 E 6 X 59 [(4, .int rl)] [] σ am1 []) → hc_At hc_V0 E 6 X 18 [(0, .ref (E.2.1 o0)), (1, .int y1), (2, .int y2), (3, .ref (E.2.2.2.1 (y3 : Int32).toNatClampNeg)), (4, .int y4), (5, .int y5)] [] σ am1 [] := by
  have hd1 : 1 ≤ d := by omega
  have hd8 : 9 ≤ d := by omega
  intro m
  induction m with
  | zero =>
    intro σ y1 y2 y3 y4 y5 rl am1 h
    cases h
  | succ m ih =>
    intro σ y1 y2 y3 y4 y5 rl am1 h JX
    rw [lp_X2_is_18] at h
    refine hr_iload hC dX2_is_18 rfl ?_
    refine hr_iload_n hC dX2_is_20 rfl ?_
    refine hr_icmp_ge (x := _) hC 59 dX2_is_21 (by decide) (fun c6 => ?_) (fun c6 => ?_)
    · rw [if_pos c6] at h
      obtain rfl := Option.some.inj h
      exact hr_sub _ rfl (JX)
    · rw [if_neg c6] at h
      refine hr_iload hC dX2_is_24 rfl ?_
      refine hr_if_eq (x := _) hC 59 dX2_is_26 (by decide) (fun c8 => ?_) (fun c8 => ?_)
      · rw [if_pos c8] at h
        obtain rfl := Option.some.inj h
        exact hr_sub _ rfl (JX)
      · rw [if_neg c8] at h
        refine hr_aload_n hC dX2_is_29 rfl ?_
        refine hr_iload_n hC dX2_is_30 rfl ?_
        refine hr_iload hC dX2_is_31 rfl ?_
        refine hr_iadd hC dX2_is_33 ?_
        obtain ⟨r9, e10, h⟩ := hx_bind h
        refine hs_callV0 hC o0 [_] _ dX2_is_34 q1123 q1089 q1090 q318 q1091 np_X4 rfl (OB_by ho0) pd_X4_at (Nat.le_of_ble_eq_true rfl) hd1 (okX4_at l E A (d - 1)  (by omega) ho0 e10 am1) rfl ?_
        refine hr_aload_n hC dX2_is_37 rfl ?_
        refine hr_iload hC dX2_is_38 rfl ?_
        obtain ⟨c13, h⟩ := hk_ok h
        refine hr_schar hC c13 dX2_is_40 q1124 hd8 (Nat.le_of_ble_eq_true rfl) ?_
        obtain ⟨v16, hv16, h⟩ := hl_ok h
        have J17 : ∀ w18 : Int32, (if r9 = (sCh y3 y5) then 1 else 0) = w18 → hc_At hc_V0 E 6 X 51 [(0, .ref (E.2.1 o0)), (1, .int y1), (2, .int y2), (3, .ref (E.2.2.2.1 (y3 : Int32).toNatClampNeg)), (5, .int y5)] [.int w18] σ am1 [] := by
          intro w18 hw18
          obtain rfl := hv16.trans hw18
          refine hr_istore hC dX2_is_51 (by decide) ?_
          refine hr_iinc (v := y5 + 1) hC dX2_is_53 rfl rfl (by decide) ?_
          refine hr_goto hC 18 dX2_is_56 (by decide) ?_
          exact hr_sub _ rfl (ih _ _ _ _ _ _ _ am1 h JX)
        refine hr_icmp_ne (x := _) hC 50 dX2_is_43 (by decide) (fun c19 => ?_) (fun c19 => ?_)
        · refine hr_iconst (v := 0) hC dX2_is_50 rfl ?_
          exact hr_sub _ rfl (J17 _ (by first | (rw [if_neg c19]; done) | (simp only [if_neg c19]; done) | rfl))
        · refine hr_iconst (v := 1) hC dX2_is_46 rfl ?_
          refine hr_goto hC 51 dX2_is_47 (by decide) ?_
          exact hr_sub _ rfl (J17 _ (by first | (rw [if_pos c19]; done) | (simp only [if_pos c19]; done) | rfl))
set_option maxRecDepth 20000 in
set_option maxHeartbeats 4000000 in
theorem okX2_is (l : Launch) (E : hc_E) (A : Nat → Prop) (d : Nat) (n : Nat) (hD : 9 ≤ d) {o0 : Nat} (ho0 : hc_by o0) {x1 : Int32} {x2 : Int32} {x3 : Int32} {σ : hc_St} {r : Int32} (h : fm_X2_is n o0 x1 x2 x3 σ = some r) (am : Nat → Nat → Nat) : hc_M l hc_V0 yX2_is (ws_ yX2_is cX2_is 6 (some .boolean)) d E A [.ref (E.2.1 o0), .int x1, .int x2, .ref (E.2.2.2.1 (x3 : Int32).toNatClampNeg)] am [] σ (.inl (some (.int r))) σ := by
  have hd1 : 1 ≤ d := by omega
  have hd8 : 9 ≤ d := by omega
  refine hc_enter2 (own := RX2) [(0, .ref (E.2.1 o0)), (1, .int x1), (2, .int x2), (3, .ref (E.2.2.2.1 (x3 : Int32).toNatClampNeg))] pl_X2 rfl hc_V0_st hc_G0_nd rfl (Nat.le_of_ble_eq_true rfl) (fun X hC hem => ?_)
  unfold fm_X2_is at h
  refine hr_iload_n hC dX2_is_0 rfl ?_
  refine hr_aload_n hC dX2_is_1 rfl ?_
  obtain ⟨c1, h⟩ := hk_ok h
  refine hr_slen hC c1 dX2_is_2 q1113 hd8 (Nat.le_of_ble_eq_true rfl) ?_
  obtain ⟨v4, hv4, h⟩ := hl_ok h
  have J26 : ∀ w27 : Int32, (if x2 = (sLen x3) then 1 else 0) = w27 → hc_At hc_V0 E 6 X 13 [(0, .ref (E.2.1 o0)), (1, .int x1), (2, .int x2), (3, .ref (E.2.2.2.1 (x3 : Int32).toNatClampNeg))] [.int w27] σ am [] := by
    intro w27 hw27
    obtain rfl := hv4.trans hw27
    refine hr_istore hC dX2_is_13 (by decide) ?_
    refine hr_iconst (v := 0) hC dX2_is_15 rfl ?_
    refine hr_istore hC dX2_is_16 (by decide) ?_
    obtain ⟨r20, e21, h⟩ := hx_bind h
    refine hr_sub _ rfl (ll_X2_is_18 n o0 ho0 hD hem hC n _ _ _ _ _ _ _ am e21 ?_)
    refine hr_iload hC dX2_is_59 rfl ?_
    obtain ⟨c25, h⟩ := hk_ok h
    obtain rfl := Option.some.inj h
    exact hr_zret hC (hb01_n c25) dX2_is_61
  refine hr_icmp_ne (x := _) hC 12 dX2_is_5 (by decide) (fun c28 => ?_) (fun c28 => ?_)
  · refine hr_iconst (v := 0) hC dX2_is_12 rfl ?_
    exact hr_sub _ rfl (J26 _ (by first | (rw [if_neg c28]; done) | (simp only [if_neg c28]; done) | rfl))
  · refine hr_iconst (v := 1) hC dX2_is_8 rfl ?_
    refine hr_goto hC 13 dX2_is_9 (by decide) ?_
    exact hr_sub _ rfl (J26 _ (by first | (rw [if_pos c28]; done) | (simp only [if_pos c28]; done) | rfl))
def lp_X2_find_6 (n : Nat) (o1 : Nat) : Nat → Int32 → Int32 → Int32 → Int32 → hc_St → Option (Int32)
  | 0, _, _, _, _, _ => none
  | m + 1, y2, y3, y4, y5, σ => if (nI (gL σ 1 0)) ≤ y5 then (some (y4)) else (hk (inb y5 (gL σ 1 0)) <| Option.bind (fm_X2_is n o1 y2 y3 ((gC σ 1 0 y5)) σ) fun r4 => hl (α := Int32) ((if r4 = 0 then y4 else y5)) fun v10 => lp_X2_find_6 n o1 m y2 y3 v10 ((y5 + 1)) σ)
/-- HomeCompiler$Words.find(LHomeCompiler$Bytes;II)I -/
def fm_X2_find (n : Nat) (o1 : Nat) (x2 : Int32) (x3 : Int32) (σ : hc_St) : Option Int32 := Option.bind (lp_X2_find_6 n o1 n x2 x3 ((-1)) 0 σ) fun r14 => some r14
set_option maxRecDepth 20000 in
set_option maxHeartbeats 4000000 in
theorem ll_X2_find_6 {l : Launch} {E : hc_E} {A : Nat → Prop} {am : Nat → Nat → Nat} {d : Nat} {X : hc_X} (n : Nat) (o1 : Nat) (ho1 : hc_by o1) (hD : 10 ≤ d) (hem : X.2.2.2.2.2.2.2.2.2.1.exceptionTable.isEmpty = true) {oc : hc_Oc} {σe : hc_St} (hC : hc_C hc_V0 E cX2_find 6 RX2 (some .int) d oc σe (l, A, am, []) X) : ∀ (m : Nat) (σ : hc_St) (y2 : Int32) (y3 : Int32) (y4 : Int32) (y5 : Int32) (rl : Int32) (am1 : Nat → Nat → Nat), lp_X2_find_6 n o1 m y2 y3 y4 y5 σ = some rl → (hc_At hc_V0 E 6 X 47 [(4, .int rl)] [] σ am1 []) → hc_At hc_V0 E 6 X 6 [(0, .ref (E.2.1 1)), (1, .ref (E.2.1 o1)), (2, .int y2), (3, .int y3), (4, .int y4), (5, .int y5)] [] σ am1 [] := by
  have hd1 : 1 ≤ d := by omega
  have hd8 : 9 ≤ d := by omega
  intro m
  induction m with
  | zero =>
    intro σ y2 y3 y4 y5 rl am1 h
    cases h
  | succ m ih =>
    intro σ y2 y3 y4 y5 rl am1 h JX
    rw [lp_X2_find_6] at h
    refine hr_iload hC dX2_find_6 rfl ?_
    refine hr_aload_n hC dX2_find_8 rfl ?_
    refine hr_gA hC F1_0 rfl dX2_find_9 q406 ?_
    refine hs_alen4 hC A1_0 dX2_find_12 ?_
    refine hr_icmp_ge (x := _) hC 47 dX2_find_13 (by decide) (fun c2 => ?_) (fun c2 => ?_)
    · rw [if_pos c2] at h
      obtain rfl := Option.some.inj h
      exact hr_sub _ rfl (JX)
    · rw [if_neg c2] at h
      refine hr_aload_n hC dX2_find_16 rfl ?_
      refine hr_iload_n hC dX2_find_17 rfl ?_
      refine hr_iload_n hC dX2_find_18 rfl ?_
      refine hr_aload_n hC dX2_find_19 rfl ?_
      refine hr_gA hC F1_0 rfl dX2_find_20 q406 ?_
      refine hr_iload hC dX2_find_23 rfl ?_
      obtain ⟨c3, h⟩ := hk_ok h
      refine hs_sald hC A1_0 c3 dX2_find_25 ?_
      obtain ⟨r4, e5, h⟩ := hx_bind h
      refine hs_callS0 hC [_, _, _, _] _ dX2_find_26 q1110 q1111 q316 q1112 np_X2 rfl pd_X2_is (Nat.le_of_ble_eq_true rfl) hd1 (okX2_is l E A (d - 1) n (by omega) ho1 e5 am1) rfl ?_
      obtain ⟨v10, hv10, h⟩ := hl_ok h
      have J11 : ∀ w12 : Int32, (if r4 = 0 then y4 else y5) = w12 → hc_At hc_V0 E 6 X 39 [(0, .ref (E.2.1 1)), (1, .ref (E.2.1 o1)), (2, .int y2), (3, .int y3), (5, .int y5)] [.int w12] σ am1 [] := by
        intro w12 hw12
        obtain rfl := hv10.trans hw12
        refine hr_istore hC dX2_find_39 (by decide) ?_
        refine hr_iinc (v := y5 + 1) hC dX2_find_41 rfl rfl (by decide) ?_
        refine hr_goto hC 6 dX2_find_44 (by decide) ?_
        exact hr_sub _ rfl (ih _ _ _ _ _ _ am1 h JX)
      refine hr_if_eq (x := _) hC 37 dX2_find_29 (by decide) (fun c13 => ?_) (fun c13 => ?_)
      · refine hr_iload hC dX2_find_37 rfl ?_
        exact hr_sub _ rfl (J11 _ (by first | (rw [if_pos c13]; done) | (simp only [if_pos c13]; done) | rfl))
      · refine hr_iload hC dX2_find_32 rfl ?_
        refine hr_goto hC 39 dX2_find_34 (by decide) ?_
        exact hr_sub _ rfl (J11 _ (by first | (rw [if_neg c13]; done) | (simp only [if_neg c13]; done) | rfl))
set_option maxRecDepth 20000 in
set_option maxHeartbeats 4000000 in
theorem okX2_find (l : Launch) (E : hc_E) (A : Nat → Prop) (d : Nat) (n : Nat) (hD : 10 ≤ d) {o1 : Nat} (ho1 : hc_by o1) {x2 : Int32} {x3 : Int32} {σ : hc_St} {r : Int32} (h : fm_X2_find n o1 x2 x3 σ = some r) (am : Nat → Nat → Nat) : hc_M l hc_V0 yX2_find (ws_ yX2_find cX2_find 6 (some .int)) d E A [.ref (E.2.1 1), .ref (E.2.1 o1), .int x2, .int x3] am [] σ (.inl (some (.int r))) σ := by
  have hd1 : 1 ≤ d := by omega
  have hd8 : 9 ≤ d := by omega
  refine hc_enter2 (own := RX2) [(0, .ref (E.2.1 1)), (1, .ref (E.2.1 o1)), (2, .int x2), (3, .int x3)] pl_X2 rfl hc_V0_st hc_G0_nd rfl (Nat.le_of_ble_eq_true rfl) (fun X hC hem => ?_)
  unfold fm_X2_find at h
  refine hr_iconst (v := (-1)) hC dX2_find_0 rfl ?_
  refine hr_istore hC dX2_find_1 (by decide) ?_
  refine hr_iconst (v := 0) hC dX2_find_3 rfl ?_
  refine hr_istore hC dX2_find_4 (by decide) ?_
  obtain ⟨r14, e15, h⟩ := hx_bind h
  refine hr_sub _ rfl (ll_X2_find_6 n o1 ho1 hD hem hC n _ _ _ _ _ _ am e15 ?_)
  refine hr_iload hC dX2_find_47 rfl ?_
  obtain rfl := Option.some.inj h
  exact hr_iret hC dX2_find_49
/-- HomeCompiler$Names.length(I)I -/
def fm_X3_length  (x1 : Int32) (σ : hc_St) : Option Int32 := Option.bind (α := Int32) (if (gI σ 2 4) ≤ (x1 + 1) then (Option.bind (fm_X4_size 3 σ) fun r7 => some (r7)) else (hk (inb ((x1 + 1)) (gL σ 2 1)) <| some ((gC σ 2 1 ((x1 + 1)))))) fun r3 => hk (inb x1 (gL σ 2 1)) <| some ((r3 - ((gC σ 2 1 x1))))
set_option maxRecDepth 20000 in
set_option maxHeartbeats 4000000 in
theorem okX3_length (l : Launch) (E : hc_E) (A : Nat → Prop) (d : Nat)  (hD : 2 ≤ d) {x1 : Int32} {σ : hc_St} {r : Int32} (h : fm_X3_length  x1 σ = some r) (am : Nat → Nat → Nat) : hc_M l hc_V0 yX3_length (ws_ yX3_length cX3_length 2 (some .int)) d E A [.ref (E.2.1 2), .int x1] am [] σ (.inl (some (.int r))) σ := by
  have hd1 : 1 ≤ d := by omega
  refine hc_enter2 (own := RX3) [(0, .ref (E.2.1 2)), (1, .int x1)] pl_X3 rfl hc_V0_st hc_G0_nd rfl (Nat.le_of_ble_eq_true rfl) (fun X hC hem => ?_)
  unfold fm_X3_length at h
  refine hr_iload_n hC dX3_length_0 rfl ?_
  refine hr_iconst (v := 1) hC dX3_length_1 rfl ?_
  refine hr_iadd hC dX3_length_2 ?_
  refine hr_aload_n hC dX3_length_3 rfl ?_
  refine hr_gI hC F2_4 dX3_length_4 q440 ?_
  obtain ⟨r3, e4, h⟩ := hx_bind h
  have J5 : hc_At hc_V0 E 2 X 28 [(0, .ref (E.2.1 2)), (1, .int x1)] [.int r3] σ am [] := by
    refine hr_aload_n hC dX3_length_28 rfl ?_
    refine hr_gA hC F2_1 rfl dX3_length_29 q437 ?_
    refine hr_iload_n hC dX3_length_32 rfl ?_
    obtain ⟨c12, h⟩ := hk_ok h
    refine hs_iald hC A2_1 c12 dX3_length_33 ?_
    refine hr_isub hC dX3_length_34 ?_
    obtain rfl := Option.some.inj h
    exact hr_iret hC dX3_length_35
  clear h
  have h := e4
  refine hr_icmp_ge (x := _) hC 21 dX3_length_7 (by decide) (fun c2 => ?_) (fun c2 => ?_)
  · rw [if_pos c2] at h
    refine hr_aload_n hC dX3_length_21 rfl ?_
    refine hr_gO 3 hC F2_0 rfl dX3_length_22 q436 ?_
    obtain ⟨r7, e8, h⟩ := hx_bind h
    refine hs_callV0 hC 3 [] _ dX3_length_25 q1175 q1068 q1069 q318 q1070 np_X4 rfl OB_3 pd_X4_size (Nat.le_of_ble_eq_true rfl) hd1 (okX4_size l E A (d - 1)  (by omega) (by unfold hc_by; decide) e8 am) rfl ?_
    obtain rfl := Option.some.inj h
    exact hr_sub _ rfl (J5)
  · rw [if_neg c2] at h
    refine hr_aload_n hC dX3_length_10 rfl ?_
    refine hr_gA hC F2_1 rfl dX3_length_11 q437 ?_
    refine hr_iload_n hC dX3_length_14 rfl ?_
    refine hr_iconst (v := 1) hC dX3_length_15 rfl ?_
    refine hr_iadd hC dX3_length_16 ?_
    obtain ⟨c11, h⟩ := hk_ok h
    refine hs_iald hC A2_1 c11 dX3_length_17 ?_
    refine hr_goto hC 28 dX3_length_18 (by decide) ?_
    obtain rfl := Option.some.inj h
    exact hr_sub _ rfl (J5)
/-- HomeCompiler$Names.letter(II)I -/
def fm_X3_letter  (x1 : Int32) (x2 : Int32) (σ : hc_St) : Option Int32 := hk (inb x1 (gL σ 2 1)) <| Option.bind (fm_X4_at 3 ((((gC σ 2 1 x1)) + x2)) σ) fun r2 => some r2
set_option maxRecDepth 20000 in
set_option maxHeartbeats 4000000 in
theorem okX3_letter (l : Launch) (E : hc_E) (A : Nat → Prop) (d : Nat)  (hD : 2 ≤ d) {x1 : Int32} {x2 : Int32} {σ : hc_St} {r : Int32} (h : fm_X3_letter  x1 x2 σ = some r) (am : Nat → Nat → Nat) : hc_M l hc_V0 yX3_letter (ws_ yX3_letter cX3_letter 3 (some .int)) d E A [.ref (E.2.1 2), .int x1, .int x2] am [] σ (.inl (some (.int r))) σ := by
  have hd1 : 1 ≤ d := by omega
  refine hc_enter2 (own := RX3) [(0, .ref (E.2.1 2)), (1, .int x1), (2, .int x2)] pl_X3 rfl hc_V0_st hc_G0_nd rfl (Nat.le_of_ble_eq_true rfl) (fun X hC hem => ?_)
  unfold fm_X3_letter at h
  refine hr_aload_n hC dX3_letter_0 rfl ?_
  refine hr_gO 3 hC F2_0 rfl dX3_letter_1 q436 ?_
  refine hr_aload_n hC dX3_letter_4 rfl ?_
  refine hr_gA hC F2_1 rfl dX3_letter_5 q437 ?_
  refine hr_iload_n hC dX3_letter_8 rfl ?_
  obtain ⟨c1, h⟩ := hk_ok h
  refine hs_iald hC A2_1 c1 dX3_letter_9 ?_
  refine hr_iload_n hC dX3_letter_10 rfl ?_
  refine hr_iadd hC dX3_letter_11 ?_
  obtain ⟨r2, e3, h⟩ := hx_bind h
  refine hs_callV0 hC 3 [_] _ dX3_letter_12 q1166 q1089 q1090 q318 q1091 np_X4 rfl OB_3 pd_X4_at (Nat.le_of_ble_eq_true rfl) hd1 (okX4_at l E A (d - 1)  (by omega) (by unfold hc_by; decide) e3 am) rfl ?_
  obtain rfl := Option.some.inj h
  exact hr_iret hC dX3_letter_15
def lp_X3_is_20 (n : Nat) (o2 : Nat) : Nat → Int32 → Int32 → Int32 → Int32 → Int32 → hc_St → Option (Int32)
  | 0, _, _, _, _, _, _ => none
  | m + 1, y1, y3, y4, y5, y6, σ => if y4 ≤ y6 then (some (y5)) else (if y5 = 0 then (some (y5)) else (Option.bind (fm_X3_letter y1 y6 σ) fun r12 => Option.bind (fm_X4_at o2 ((y3 + y6)) σ) fun r16 => hl (α := Int32) ((if r12 = r16 then 1 else 0)) fun v22 => lp_X3_is_20 n o2 m y1 y3 y4 v22 ((y6 + 1)) σ))
/-- HomeCompiler$Names.is(ILHomeCompiler$Bytes;II)Z -/
def fm_X3_is (n : Nat) (x1 : Int32) (o2 : Nat) (x3 : Int32) (x4 : Int32) (σ : hc_St) : Option Int32 := Option.bind (fm_X3_length x1 σ) fun r1 => hl (α := Int32) ((if r1 = x4 then 1 else 0)) fun v7 => Option.bind (lp_X3_is_20 n o2 n x1 x3 x4 v7 0 σ) fun r26 => hk (hb01 r26) <| some r26
set_option maxRecDepth 20000 in
set_option maxHeartbeats 4000000 in
theorem ll_X3_is_20 {l : Launch} {E : hc_E} {A : Nat → Prop} {am : Nat → Nat → Nat} {d : Nat} {X : hc_X} (n : Nat) (o2 : Nat) (ho2 : hc_by o2) (hD : 3 ≤ d) (hem : X.2.2.2.2.2.2.2.2.2.1.exceptionTable.isEmpty = true) {oc : hc_Oc} {σe : hc_St} (hC : hc_C hc_V0 E cX3_is 7 RX3 (some .boolean) d oc σe (l, A, am, []) X) : ∀ (m : Nat) (σ : hc_St) (y1 : Int32) (y3 : Int32) (y4 : Int32) (y5 : Int32) (y6 : Int32) (rl : Int32) (am1 : Nat → Nat → Nat), lp_X3_is_20 n o2 m y1 y3 y4 y5 y6 σ = some rl → (hc_At hc_V0 E 7 X 63 [(5, .int rl)] [] σ am1 []) → hc_At hc_V0 E 7 X 20 [(0, .ref (E.2.1 2)), (1, .int y1), (2, .ref (E.2.1 o2)), (3, .int y3), (4, .int y4), (5, .int y5), (6, .int y6)] [] σ am1 [] := by
  have hd1 : 1 ≤ d := by omega
  intro m
  induction m with
  | zero =>
    intro σ y1 y3 y4 y5 y6 rl am1 h
    cases h
  | succ m ih =>
    intro σ y1 y3 y4 y5 y6 rl am1 h JX
    rw [lp_X3_is_20] at h
    refine hr_iload hC dX3_is_20 rfl ?_
    refine hr_iload hC dX3_is_22 rfl ?_
    refine hr_icmp_ge (x := _) hC 63 dX3_is_24 (by decide) (fun c9 => ?_) (fun c9 => ?_)
    · rw [if_pos c9] at h
      obtain rfl := Option.some.inj h
      exact hr_sub _ rfl (JX)
    · rw [if_neg c9] at h
      refine hr_iload hC dX3_is_27 rfl ?_
      refine hr_if_eq (x := _) hC 63 dX3_is_29 (by decide) (fun c11 => ?_) (fun c11 => ?_)
      · rw [if_pos c11] at h
        obtain rfl := Option.some.inj h
        exact hr_sub _ rfl (JX)
      · rw [if_neg c11] at h
        refine hr_aload_n hC dX3_is_32 rfl ?_
        refine hr_iload_n hC dX3_is_33 rfl ?_
        refine hr_iload hC dX3_is_34 rfl ?_
        obtain ⟨r12, e13, h⟩ := hx_bind h
        refine hs_callV0 hC 2 [_, _] _ dX3_is_36 q1176 q1177 q1178 q317 q1179 np_X3 rfl OB_2 pd_X3_letter (Nat.le_of_ble_eq_true rfl) hd1 (okX3_letter l E A (d - 1)  (by omega)  e13 am1) rfl ?_
        refine hr_aload_n hC dX3_is_39 rfl ?_
        refine hr_iload_n hC dX3_is_40 rfl ?_
        refine hr_iload hC dX3_is_41 rfl ?_
        refine hr_iadd hC dX3_is_43 ?_
        obtain ⟨r16, e17, h⟩ := hx_bind h
        refine hs_callV0 hC o2 [_] _ dX3_is_44 q1166 q1089 q1090 q318 q1091 np_X4 rfl (OB_by ho2) pd_X4_at (Nat.le_of_ble_eq_true rfl) hd1 (okX4_at l E A (d - 1)  (by omega) ho2 e17 am1) rfl ?_
        obtain ⟨v22, hv22, h⟩ := hl_ok h
        have J23 : ∀ w24 : Int32, (if r12 = r16 then 1 else 0) = w24 → hc_At hc_V0 E 7 X 55 [(0, .ref (E.2.1 2)), (1, .int y1), (2, .ref (E.2.1 o2)), (3, .int y3), (4, .int y4), (6, .int y6)] [.int w24] σ am1 [] := by
          intro w24 hw24
          obtain rfl := hv22.trans hw24
          refine hr_istore hC dX3_is_55 (by decide) ?_
          refine hr_iinc (v := y6 + 1) hC dX3_is_57 rfl rfl (by decide) ?_
          refine hr_goto hC 20 dX3_is_60 (by decide) ?_
          exact hr_sub _ rfl (ih _ _ _ _ _ _ _ am1 h JX)
        refine hr_icmp_ne (x := _) hC 54 dX3_is_47 (by decide) (fun c25 => ?_) (fun c25 => ?_)
        · refine hr_iconst (v := 0) hC dX3_is_54 rfl ?_
          exact hr_sub _ rfl (J23 _ (by first | (rw [if_neg c25]; done) | (simp only [if_neg c25]; done) | rfl))
        · refine hr_iconst (v := 1) hC dX3_is_50 rfl ?_
          refine hr_goto hC 55 dX3_is_51 (by decide) ?_
          exact hr_sub _ rfl (J23 _ (by first | (rw [if_pos c25]; done) | (simp only [if_pos c25]; done) | rfl))
set_option maxRecDepth 20000 in
set_option maxHeartbeats 4000000 in
theorem okX3_is (l : Launch) (E : hc_E) (A : Nat → Prop) (d : Nat) (n : Nat) (hD : 3 ≤ d) {o2 : Nat} (ho2 : hc_by o2) {x1 : Int32} {x3 : Int32} {x4 : Int32} {σ : hc_St} {r : Int32} (h : fm_X3_is n x1 o2 x3 x4 σ = some r) (am : Nat → Nat → Nat) : hc_M l hc_V0 yX3_is (ws_ yX3_is cX3_is 7 (some .boolean)) d E A [.ref (E.2.1 2), .int x1, .ref (E.2.1 o2), .int x3, .int x4] am [] σ (.inl (some (.int r))) σ := by
  have hd1 : 1 ≤ d := by omega
  refine hc_enter2 (own := RX3) [(0, .ref (E.2.1 2)), (1, .int x1), (2, .ref (E.2.1 o2)), (3, .int x3), (4, .int x4)] pl_X3 rfl hc_V0_st hc_G0_nd rfl (Nat.le_of_ble_eq_true rfl) (fun X hC hem => ?_)
  unfold fm_X3_is at h
  refine hr_aload_n hC dX3_is_0 rfl ?_
  refine hr_iload_n hC dX3_is_1 rfl ?_
  obtain ⟨r1, e2, h⟩ := hx_bind h
  refine hs_callV0 hC 2 [_] _ dX3_is_2 q1171 q1172 q1173 q317 q1174 np_X3 rfl OB_2 pd_X3_length (Nat.le_of_ble_eq_true rfl) hd1 (okX3_length l E A (d - 1)  (by omega)  e2 am) rfl ?_
  refine hr_iload hC dX3_is_5 rfl ?_
  obtain ⟨v7, hv7, h⟩ := hl_ok h
  have J32 : ∀ w33 : Int32, (if r1 = x4 then 1 else 0) = w33 → hc_At hc_V0 E 7 X 15 [(0, .ref (E.2.1 2)), (1, .int x1), (2, .ref (E.2.1 o2)), (3, .int x3), (4, .int x4)] [.int w33] σ am [] := by
    intro w33 hw33
    obtain rfl := hv7.trans hw33
    refine hr_istore hC dX3_is_15 (by decide) ?_
    refine hr_iconst (v := 0) hC dX3_is_17 rfl ?_
    refine hr_istore hC dX3_is_18 (by decide) ?_
    obtain ⟨r26, e27, h⟩ := hx_bind h
    refine hr_sub _ rfl (ll_X3_is_20 n o2 ho2 hD hem hC n _ _ _ _ _ _ _ am e27 ?_)
    refine hr_iload hC dX3_is_63 rfl ?_
    obtain ⟨c31, h⟩ := hk_ok h
    obtain rfl := Option.some.inj h
    exact hr_zret hC (hb01_n c31) dX3_is_65
  refine hr_icmp_ne (x := _) hC 14 dX3_is_7 (by decide) (fun c34 => ?_) (fun c34 => ?_)
  · refine hr_iconst (v := 0) hC dX3_is_14 rfl ?_
    exact hr_sub _ rfl (J32 _ (by first | (rw [if_neg c34]; done) | (simp only [if_neg c34]; done) | rfl))
  · refine hr_iconst (v := 1) hC dX3_is_10 rfl ?_
    refine hr_goto hC 15 dX3_is_11 (by decide) ?_
    exact hr_sub _ rfl (J32 _ (by first | (rw [if_pos c34]; done) | (simp only [if_pos c34]; done) | rfl))
