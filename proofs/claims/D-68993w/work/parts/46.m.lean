set_option maxRecDepth 20000
def lp_X21_feed_33 (n : Nat) : Nat → Int32 → Int32 → Int32 → Int32 → Int32 → Int32 → hc_St → Option (hc_St)
  | 0, _, _, _, _, _, _, _ => none
  | m + 1, y1, y2, y3, y4, y5, y6, σ => if 20 ≤ y6 then (some (σ)) else (hl (α := Int32) ((if 4 ≤ y6 then (if 8 ≤ y6 then (if 12 ≤ y6 then (if 16 ≤ y6 then y5 else y4) else y3) else y2) else y1)) fun v11 => hk (inb ((gI σ 23 6)) (gL σ 23 5)) <| hl (pC σ 23 5 ((gI σ 23 6)) ((((jshr v11 ((24 - ((8 * ((jrem y6 4)))))))).toInt8.toInt32))) fun σ13 => hl (pI σ13 23 6 ((((gI σ13 23 6)) + 1))) fun σ14 => lp_X21_feed_33 n m y1 y2 y3 y4 y5 ((y6 + 1)) σ14)
/-- HomeCompilerModel.feed(IIIII)V -/
def fm_X21_feed (n : Nat) (x1 : Int32) (x2 : Int32) (x3 : Int32) (x4 : Int32) (x5 : Int32) (σ : hc_St) : Option hc_St := hl (α := Int32) ((if (((gI σ 23 6)) + 20) ≤ 4096 then 0 else 1)) fun v3 => hl (pI σ 23 4 v3) fun σ4 => if (gI σ4 23 4) ≤ 0 then (Option.bind (lp_X21_feed_33 n n x1 x2 x3 x4 x5 0 σ4) fun r21 => some r21) else (some σ4)
set_option maxRecDepth 20000 in
set_option maxHeartbeats 4000000 in
theorem ll_X21_feed_33 {l : Launch} {E : hc_E} {A : Nat → Prop} {am : Nat → Nat → Nat} {d : Nat} {X : hc_X} (n : Nat) (hD : 1 ≤ d) (hem : X.2.2.2.2.2.2.2.2.2.1.exceptionTable.isEmpty = true) {oc : hc_Oc} {σe : hc_St} (hC : hc_C hc_V0 E cX21_feed 8 RX21 none d oc σe (l, A, am, []) X) : ∀ (m : Nat) (σ : hc_St) (y1 : Int32) (y2 : Int32) (y3 : Int32) (y4 : Int32) (y5 : Int32) (y6 : Int32) (rl : hc_St) (am1 : Nat → Nat → Nat), lp_X21_feed_33 n m y1 y2 y3 y4 y5 y6 σ = some rl → (hc_At hc_V0 E 8 X 127 [] [] rl am1 []) → hc_At hc_V0 E 8 X 33 [(0, .ref (E.2.1 23)), (1, .int y1), (2, .int y2), (3, .int y3), (4, .int y4), (5, .int y5), (6, .int y6)] [] σ am1 [] := by
  have hd1 : 1 ≤ d := by omega
  intro m
  induction m with
  | zero =>
    intro σ y1 y2 y3 y4 y5 y6 rl am1 h
    cases h
  | succ m ih =>
    intro σ y1 y2 y3 y4 y5 y6 rl am1 h JX
    rw [lp_X21_feed_33] at h
    refine hr_iload hC dX21_feed_33 rfl ?_
    refine hr_bipush (v := 20) hC dX21_feed_35 rfl ?_
    refine hr_icmp_ge (x := _) hC 127 dX21_feed_37 (by decide) (fun c8 => ?_) (fun c8 => ?_)
    · rw [if_pos c8] at h
      obtain rfl := Option.some.inj h
      exact hr_sub _ rfl (JX)
    · rw [if_neg c8] at h
      refine hr_iload hC dX21_feed_40 rfl ?_
      refine hr_iconst (v := 4) hC dX21_feed_42 rfl ?_
      obtain ⟨v11, hv11, h⟩ := hl_ok h
      have J15 : ∀ w16 : Int32, (if 4 ≤ y6 then (if 8 ≤ y6 then (if 12 ≤ y6 then (if 16 ≤ y6 then y5 else y4) else y3) else y2) else y1) = w16 → hc_At hc_V0 E 8 X 86 [(0, .ref (E.2.1 23)), (1, .int y1), (2, .int y2), (3, .int y3), (4, .int y4), (5, .int y5), (6, .int y6)] [.int w16] σ am1 [] := by
        intro w16 hw16
        obtain rfl := hv11.trans hw16
        refine hr_istore hC dX21_feed_86 (by decide) ?_
        refine hr_aload_n hC dX21_feed_88 rfl ?_
        refine hr_gA hC F23_5 rfl dX21_feed_89 q2847 ?_
        refine hr_aload_n hC dX21_feed_92 rfl ?_
        refine hr_gI hC F23_6 dX21_feed_93 q2848 ?_
        refine hr_iload hC dX21_feed_96 rfl ?_
        refine hr_bipush (v := 24) hC dX21_feed_98 rfl ?_
        refine hr_bipush (v := 8) hC dX21_feed_100 rfl ?_
        refine hr_iload hC dX21_feed_102 rfl ?_
        refine hr_iconst (v := 4) hC dX21_feed_104 rfl ?_
        refine hr_irem hC dX21_feed_105 (by decide) ?_
        refine hr_imul hC dX21_feed_106 ?_
        refine hr_isub hC dX21_feed_107 ?_
        refine hr_ishr hC dX21_feed_108 ?_
        refine hr_i2b hC dX21_feed_109 ?_
        obtain ⟨c12, h⟩ := hk_ok h
        obtain ⟨σ13, hσ13, h⟩ := hl_ok h
        refine hs_bast hC A23_5 c12 dX21_feed_110 ?_
        rw [← hσ13]
        refine hr_aload_n hC dX21_feed_111 rfl ?_
        refine hr_dup hC dX21_feed_112 rfl ?_
        refine hr_gI hC F23_6 dX21_feed_113 q2848 ?_
        refine hr_iconst (v := 1) hC dX21_feed_116 rfl ?_
        refine hr_iadd hC dX21_feed_117 ?_
        obtain ⟨σ14, hσ14, h⟩ := hl_ok h
        refine hr_pI hC F23_6 PX21_6 dX21_feed_118 q2848 ?_
        rw [← hσ14]
        refine hr_iinc (v := y6 + 1) hC dX21_feed_121 rfl rfl (by decide) ?_
        refine hr_goto hC 33 dX21_feed_124 (by decide) ?_
        exact hr_sub _ rfl (ih _ _ _ _ _ _ _ _ am1 h JX)
      refine hr_icmp_ge (x := _) hC 50 dX21_feed_43 (by decide) (fun c17 => ?_) (fun c17 => ?_)
      · refine hr_iload hC dX21_feed_50 rfl ?_
        refine hr_bipush (v := 8) hC dX21_feed_52 rfl ?_
        refine hr_icmp_ge (x := _) hC 61 dX21_feed_54 (by decide) (fun c18 => ?_) (fun c18 => ?_)
        · refine hr_iload hC dX21_feed_61 rfl ?_
          refine hr_bipush (v := 12) hC dX21_feed_63 rfl ?_
          refine hr_icmp_ge (x := _) hC 72 dX21_feed_65 (by decide) (fun c19 => ?_) (fun c19 => ?_)
          · refine hr_iload hC dX21_feed_72 rfl ?_
            refine hr_bipush (v := 16) hC dX21_feed_74 rfl ?_
            refine hr_icmp_ge (x := _) hC 84 dX21_feed_76 (by decide) (fun c20 => ?_) (fun c20 => ?_)
            · refine hr_iload hC dX21_feed_84 rfl ?_
              exact hr_sub _ rfl (J15 _ (by first | (rw [if_pos c17, if_pos c18, if_pos c19, if_pos c20]; done) | (simp only [if_pos c17, if_pos c18, if_pos c19, if_pos c20]; done) | rfl))
            · refine hr_iload hC dX21_feed_79 rfl ?_
              refine hr_goto hC 86 dX21_feed_81 (by decide) ?_
              exact hr_sub _ rfl (J15 _ (by first | (rw [if_pos c17, if_pos c18, if_pos c19, if_neg c20]; done) | (simp only [if_pos c17, if_pos c18, if_pos c19, if_neg c20]; done) | rfl))
          · refine hr_iload_n hC dX21_feed_68 rfl ?_
            refine hr_goto hC 86 dX21_feed_69 (by decide) ?_
            exact hr_sub _ rfl (J15 _ (by first | (rw [if_pos c17, if_pos c18, if_neg c19]; done) | (simp only [if_pos c17, if_pos c18, if_neg c19]; done) | rfl))
        · refine hr_iload_n hC dX21_feed_57 rfl ?_
          refine hr_goto hC 86 dX21_feed_58 (by decide) ?_
          exact hr_sub _ rfl (J15 _ (by first | (rw [if_pos c17, if_neg c18]; done) | (simp only [if_pos c17, if_neg c18]; done) | rfl))
      · refine hr_iload_n hC dX21_feed_46 rfl ?_
        refine hr_goto hC 86 dX21_feed_47 (by decide) ?_
        exact hr_sub _ rfl (J15 _ (by first | (rw [if_neg c17]; done) | (simp only [if_neg c17]; done) | rfl))
set_option maxRecDepth 20000 in
set_option maxHeartbeats 4000000 in
theorem okX21_feed (l : Launch) (E : hc_E) (A : Nat → Prop) (d : Nat) (n : Nat) (hD : 1 ≤ d) {x1 : Int32} {x2 : Int32} {x3 : Int32} {x4 : Int32} {x5 : Int32} {σ : hc_St} {r : hc_St} (h : fm_X21_feed n x1 x2 x3 x4 x5 σ = some r) (am : Nat → Nat → Nat) : hc_M l hc_V0 yX21_feed (ws_ yX21_feed cX21_feed 8 none) d E A [.ref (E.2.1 23), .int x1, .int x2, .int x3, .int x4, .int x5] am [] σ (.inl none) r := by
  have hd1 : 1 ≤ d := by omega
  refine hc_enter2 (own := RX21) [(0, .ref (E.2.1 23)), (1, .int x1), (2, .int x2), (3, .int x3), (4, .int x4), (5, .int x5)] pl_X21 rfl hc_V0_st hc_G0_nd rfl (Nat.le_of_ble_eq_true rfl) (fun X hC hem => ?_)
  unfold fm_X21_feed at h
  refine hr_aload_n hC dX21_feed_0 rfl ?_
  refine hr_aload_n hC dX21_feed_1 rfl ?_
  refine hr_gI hC F23_6 dX21_feed_2 q2848 ?_
  refine hr_bipush (v := 20) hC dX21_feed_5 rfl ?_
  refine hr_iadd hC dX21_feed_7 ?_
  refine hr_sipush (v := 4096) hC dX21_feed_8 rfl ?_
  obtain ⟨v3, hv3, h⟩ := hl_ok h
  have J26 : ∀ w27 : Int32, (if (((gI σ 23 6)) + 20) ≤ 4096 then 0 else 1) = w27 → hc_At hc_V0 E 8 X 19 [(0, .ref (E.2.1 23)), (1, .int x1), (2, .int x2), (3, .int x3), (4, .int x4), (5, .int x5)] [.int w27, .ref (E.2.1 23)] σ am [] := by
    intro w27 hw27
    obtain rfl := hv3.trans hw27
    obtain ⟨σ4, hσ4, h⟩ := hl_ok h
    refine hr_pI hC F23_4 PX21_4 dX21_feed_19 q2846 ?_
    rw [← hσ4]
    refine hr_aload_n hC dX21_feed_22 rfl ?_
    refine hr_gI hC F23_4 dX21_feed_23 q2846 ?_
    refine hr_if_le (x := _) hC 30 dX21_feed_26 (by decide) (fun c6 => ?_) (fun c6 => ?_)
    · rw [if_pos c6] at h
      refine hr_iconst (v := 0) hC dX21_feed_30 rfl ?_
      refine hr_istore hC dX21_feed_31 (by decide) ?_
      obtain ⟨r21, e22, h⟩ := hx_bind h
      refine hr_sub _ rfl (ll_X21_feed_33 n hD hem hC n _ _ _ _ _ _ _ _ am e22 ?_)
      obtain rfl := Option.some.inj h
      exact hr_vret hC dX21_feed_127
    · rw [if_neg c6] at h
      obtain rfl := Option.some.inj h
      exact hr_vret hC dX21_feed_29
  refine hr_icmp_le (x := _) hC 18 dX21_feed_11 (by decide) (fun c28 => ?_) (fun c28 => ?_)
  · refine hr_iconst (v := 0) hC dX21_feed_18 rfl ?_
    exact hr_sub _ rfl (J26 _ (by first | (rw [if_pos c28]; done) | (simp only [if_pos c28]; done) | rfl))
  · refine hr_iconst (v := 1) hC dX21_feed_14 rfl ?_
    refine hr_goto hC 19 dX21_feed_15 (by decide) ?_
    exact hr_sub _ rfl (J26 _ (by first | (rw [if_neg c28]; done) | (simp only [if_neg c28]; done) | rfl))
/-- HomeCompilerModel.end(I)V -/
def fm_X21_end  (x1 : Int32) (σ : hc_St) : Option hc_St := hl (α := Int32) ((if x1 < 0 then 1 else (if x1 ≤ (gI σ 23 6) then 0 else 1))) fun v3 => hl (pI σ 23 4 v3) fun σ4 => hl (α := Int32) ((if (gI σ4 23 4) ≤ 0 then x1 else (gI σ4 23 6))) fun v7 => hl (pI σ4 23 6 v7) fun σ8 => some σ8
set_option maxRecDepth 20000 in
set_option maxHeartbeats 4000000 in
theorem okX21_end (l : Launch) (E : hc_E) (A : Nat → Prop) (d : Nat)  (hD : 1 ≤ d) {x1 : Int32} {σ : hc_St} {r : hc_St} (h : fm_X21_end  x1 σ = some r) (am : Nat → Nat → Nat) : hc_M l hc_V0 yX21_end (ws_ yX21_end cX21_end 2 none) d E A [.ref (E.2.1 23), .int x1] am [] σ (.inl none) r := by
  have hd1 : 1 ≤ d := by omega
  refine hc_enter2 (own := RX21) [(0, .ref (E.2.1 23)), (1, .int x1)] pl_X21 rfl hc_V0_st hc_G0_nd rfl (Nat.le_of_ble_eq_true rfl) (fun X hC hem => ?_)
  unfold fm_X21_end at h
  refine hr_aload_n hC dX21_end_0 rfl ?_
  refine hr_iload_n hC dX21_end_1 rfl ?_
  obtain ⟨v3, hv3, h⟩ := hl_ok h
  have J12 : ∀ w13 : Int32, (if x1 < 0 then 1 else (if x1 ≤ (gI σ 23 6) then 0 else 1)) = w13 → hc_At hc_V0 E 2 X 18 [(0, .ref (E.2.1 23)), (1, .int x1)] [.int w13, .ref (E.2.1 23)] σ am [] := by
    intro w13 hw13
    obtain rfl := hv3.trans hw13
    obtain ⟨σ4, hσ4, h⟩ := hl_ok h
    refine hr_pI hC F23_4 PX21_4 dX21_end_18 q2846 ?_
    rw [← hσ4]
    refine hr_aload_n hC dX21_end_21 rfl ?_
    refine hr_aload_n hC dX21_end_22 rfl ?_
    refine hr_gI hC F23_4 dX21_end_23 q2846 ?_
    obtain ⟨v7, hv7, h⟩ := hl_ok h
    have J9 : ∀ w10 : Int32, (if (gI σ4 23 4) ≤ 0 then x1 else (gI σ4 23 6)) = w10 → hc_At hc_V0 E 2 X 37 [] [.int w10, .ref (E.2.1 23)] σ4 am [] := by
      intro w10 hw10
      obtain rfl := hv7.trans hw10
      obtain ⟨σ8, hσ8, h⟩ := hl_ok h
      refine hr_pI hC F23_6 PX21_6 dX21_end_37 q2848 ?_
      rw [← hσ8]
      obtain rfl := Option.some.inj h
      exact hr_vret hC dX21_end_40
    refine hr_if_le (x := _) hC 36 dX21_end_26 (by decide) (fun c11 => ?_) (fun c11 => ?_)
    · refine hr_iload_n hC dX21_end_36 rfl ?_
      exact hr_sub _ rfl (J9 _ (by first | (rw [if_pos c11]; done) | (simp only [if_pos c11]; done) | rfl))
    · refine hr_aload_n hC dX21_end_29 rfl ?_
      refine hr_gI hC F23_6 dX21_end_30 q2848 ?_
      refine hr_goto hC 37 dX21_end_33 (by decide) ?_
      exact hr_sub _ rfl (J9 _ (by first | (rw [if_neg c11]; done) | (simp only [if_neg c11]; done) | rfl))
  refine hr_if_lt (x := _) hC 13 dX21_end_2 (by decide) (fun c14 => ?_) (fun c14 => ?_)
  · refine hr_iconst (v := 1) hC dX21_end_13 rfl ?_
    refine hr_goto hC 18 dX21_end_14 (by decide) ?_
    exact hr_sub _ rfl (J12 _ (by first | (rw [if_pos c14]; done) | (simp only [if_pos c14]; done) | rfl))
  · refine hr_iload_n hC dX21_end_5 rfl ?_
    refine hr_aload_n hC dX21_end_6 rfl ?_
    refine hr_gI hC F23_6 dX21_end_7 q2848 ?_
    refine hr_icmp_le (x := _) hC 17 dX21_end_10 (by decide) (fun c15 => ?_) (fun c15 => ?_)
    · refine hr_iconst (v := 0) hC dX21_end_17 rfl ?_
      exact hr_sub _ rfl (J12 _ (by first | (rw [if_neg c14, if_pos c15]; done) | (simp only [if_neg c14, if_pos c15]; done) | rfl))
    · refine hr_iconst (v := 1) hC dX21_end_13 rfl ?_
      refine hr_goto hC 18 dX21_end_14 (by decide) ?_
      exact hr_sub _ rfl (J12 _ (by first | (rw [if_neg c14, if_neg c15]; done) | (simp only [if_neg c14, if_neg c15]; done) | rfl))
/-- HomeCompilerModel.byteAt(I)I -/
def fm_X21_byteAt  (x1 : Int32) (σ : hc_St) : Option Int32 := Option.bind (α := Int32) (if (gI σ 23 8) ≤ x1 then (some ((-1))) else (hk (inb x1 (gL σ 23 7)) <| some ((gC σ 23 7 x1).toInt8.toInt32))) fun r3 => some r3
set_option maxRecDepth 20000 in
set_option maxHeartbeats 4000000 in
theorem okX21_byteAt (l : Launch) (E : hc_E) (A : Nat → Prop) (d : Nat)  (hD : 1 ≤ d) {x1 : Int32} {σ : hc_St} {r : Int32} (h : fm_X21_byteAt  x1 σ = some r) (am : Nat → Nat → Nat) : hc_M l hc_V0 yX21_byteAt (ws_ yX21_byteAt cX21_byteAt 2 (some .int)) d E A [.ref (E.2.1 23), .int x1] am [] σ (.inl (some (.int r))) σ := by
  have hd1 : 1 ≤ d := by omega
  refine hc_enter2 (own := RX21) [(0, .ref (E.2.1 23)), (1, .int x1)] pl_X21 rfl hc_V0_st hc_G0_nd rfl (Nat.le_of_ble_eq_true rfl) (fun X hC hem => ?_)
  unfold fm_X21_byteAt at h
  refine hr_iload_n hC dX21_byteAt_0 rfl ?_
  refine hr_aload_n hC dX21_byteAt_1 rfl ?_
  refine hr_gI hC F23_8 dX21_byteAt_2 q2850 ?_
  obtain ⟨r3, e4, h⟩ := hx_bind h
  have J5 : hc_At hc_V0 E 2 X 18 [] [.int r3] σ am [] := by
    obtain rfl := Option.some.inj h
    exact hr_iret hC dX21_byteAt_18
  clear h
  have h := e4
  refine hr_icmp_ge (x := _) hC 17 dX21_byteAt_5 (by decide) (fun c2 => ?_) (fun c2 => ?_)
  · rw [if_pos c2] at h
    refine hr_iconst (v := (-1)) hC dX21_byteAt_17 rfl ?_
    obtain rfl := Option.some.inj h
    exact hr_sub _ rfl (J5)
  · rw [if_neg c2] at h
    refine hr_aload_n hC dX21_byteAt_8 rfl ?_
    refine hr_gA hC F23_7 rfl dX21_byteAt_9 q2849 ?_
    refine hr_iload_n hC dX21_byteAt_12 rfl ?_
    obtain ⟨c7, h⟩ := hk_ok h
    refine hs_bald hC A23_7 c7 dX21_byteAt_13 ?_
    refine hr_goto hC 18 dX21_byteAt_14 (by decide) ?_
    obtain rfl := Option.some.inj h
    exact hr_sub _ rfl (J5)
def lp_X21_skip_117 (n : Nat) : Nat → Int32 → Int32 → hc_St → Option (Int32)
  | 0, _, _, _ => none
  | m + 1, y2, y5, σ => if (gI σ 23 8) ≤ y5 then (some (y5)) else (hk (inb y5 (gL σ 23 7)) <| if (gC σ 23 7 y5).toInt8.toInt32 = 42 then (Option.bind (fm_X21_byteAt ((y5 + 1)) σ) fun r34 => if r34 = 47 then (some (y5)) else (lp_X21_skip_117 n m y2 ((y5 + 1)) σ)) else (lp_X21_skip_117 n m y2 ((y5 + 1)) σ))
def lp_X21_skip_68 (n : Nat) : Nat → Int32 → Int32 → hc_St → Option (Int32)
  | 0, _, _, _ => none
  | m + 1, y2, y3, σ => if (gI σ 23 8) ≤ y2 then (some (y2)) else (hk (inb y2 (gL σ 23 7)) <| if (gC σ 23 7 y2).toInt8.toInt32 = 10 then (some (y2)) else (lp_X21_skip_68 n m ((y2 + 1)) y3 σ))
def lp_X21_skip_4 (n : Nat) : Nat → Int32 → Int32 → hc_St → Option (Int32)
  | 0, _, _, _ => none
  | m + 1, y2, y3, σ => if y3 = 0 then (some (y2)) else (Option.bind (fm_X21_byteAt y2 σ) fun r3 => Option.bind (α := Int32 × Int32) (if r3 = 32 then (some ((y2 + 1), y3)) else (if r3 = 9 then (some ((y2 + 1), y3)) else (if r3 = 10 then (some ((y2 + 1), y3)) else (if r3 = 13 then (some ((y2 + 1), y3)) else (if r3 = 47 then (Option.bind (fm_X21_byteAt ((y2 + 1)) σ) fun r57 => if r57 = 47 then (Option.bind (lp_X21_skip_68 n n y2 y3 σ) fun r93 => some (r93, y3)) else (if r3 = 47 then (Option.bind (fm_X21_byteAt ((y2 + 1)) σ) fun r65 => if r65 = 42 then (Option.bind (lp_X21_skip_117 n n y2 ((y2 + 2)) σ) fun r71 => hl (α := Int32) ((if (gI σ 23 8) ≤ r71 then 0 else 1)) fun v78 => hl (α := Int32) ((if v78 = 0 then y2 else (r71 + 2))) fun v81 => some (v81, v78)) else (some (y2, 0))) else (some (y2, 0)))) else (if r3 = 47 then (Option.bind (fm_X21_byteAt ((y2 + 1)) σ) fun r23 => if r23 = 42 then (Option.bind (lp_X21_skip_117 n n y2 ((y2 + 2)) σ) fun r40 => hl (α := Int32) ((if (gI σ 23 8) ≤ r40 then 0 else 1)) fun v47 => hl (α := Int32) ((if v47 = 0 then y2 else (r40 + 2))) fun v50 => some (v50, v47)) else (some (y2, 0))) else (some (y2, 0)))))))) fun r9 => lp_X21_skip_4 n m r9.1 r9.2 σ)
/-- HomeCompilerModel.skip(I)I -/
def fm_X21_skip (n : Nat) (x1 : Int32) (σ : hc_St) : Option Int32 := Option.bind (lp_X21_skip_4 n n x1 1 σ) fun r98 => some r98
set_option maxRecDepth 20000 in
set_option maxHeartbeats 4000000 in
theorem ll_X21_skip_117 {l : Launch} {E : hc_E} {A : Nat → Prop} {am : Nat → Nat → Nat} {d : Nat} {X : hc_X} (n : Nat) (hD : 2 ≤ d) (hem : X.2.2.2.2.2.2.2.2.2.1.exceptionTable.isEmpty = true) {oc : hc_Oc} {σe : hc_St} (hC : hc_C hc_V0 E cX21_skip 6 RX21 (some .int) d oc σe (l, A, am, []) X) : ∀ (m : Nat) (σ : hc_St) (y2 : Int32) (y5 : Int32) (rl : Int32) (am1 : Nat → Nat → Nat), lp_X21_skip_117 n m y2 y5 σ = some rl → (hc_At hc_V0 E 6 X 157 [(0, .ref (E.2.1 23)), (2, .int y2), (5, .int rl)] [] σ am1 []) → hc_At hc_V0 E 6 X 117 [(0, .ref (E.2.1 23)), (2, .int y2), (5, .int y5)] [] σ am1 [] := by
  have hd1 : 1 ≤ d := by omega
  intro m
  induction m with
  | zero =>
    intro σ y2 y5 rl am1 h
    cases h
  | succ m ih =>
    intro σ y2 y5 rl am1 h JX
    rw [lp_X21_skip_117] at h
    refine hr_iload hC dX21_skip_117 rfl ?_
    refine hr_aload_n hC dX21_skip_119 rfl ?_
    refine hr_gI hC F23_8 dX21_skip_120 q2850 ?_
    refine hr_icmp_ge (x := _) hC 157 dX21_skip_123 (by decide) (fun c30 => ?_) (fun c30 => ?_)
    · rw [if_pos c30] at h
      obtain rfl := Option.some.inj h
      exact hr_sub _ rfl (JX)
    · rw [if_neg c30] at h
      refine hr_aload_n hC dX21_skip_126 rfl ?_
      refine hr_gA hC F23_7 rfl dX21_skip_127 q2849 ?_
      refine hr_iload hC dX21_skip_130 rfl ?_
      obtain ⟨c31, h⟩ := hk_ok h
      refine hs_bald hC A23_7 c31 dX21_skip_132 ?_
      refine hr_bipush (v := 42) hC dX21_skip_133 rfl ?_
      refine hr_icmp_ne (x := _) hC 151 dX21_skip_135 (by decide) (fun c33 => ?_) (fun c33 => ?_)
      · rw [if_neg c33] at h
        refine hr_iinc (v := y5 + 1) hC dX21_skip_151 rfl rfl (by decide) ?_
        refine hr_goto hC 117 dX21_skip_154 (by decide) ?_
        exact hr_sub _ rfl (ih _ _ _ _ am1 h JX)
      · rw [if_pos c33] at h
        refine hr_aload_n hC dX21_skip_138 rfl ?_
        refine hr_iload hC dX21_skip_139 rfl ?_
        refine hr_iconst (v := 1) hC dX21_skip_141 rfl ?_
        refine hr_iadd hC dX21_skip_142 ?_
        obtain ⟨r34, e35, h⟩ := hx_bind h
        refine hs_callV0 hC 23 [_] _ dX21_skip_143 q3127 q3129 qs175 q335 q3130 np_X21 rfl OB_23 pd_X21_byteAt (Nat.le_of_ble_eq_true rfl) hd1 (okX21_byteAt l E A (d - 1)  (by omega)  e35 am1) rfl ?_
        refine hr_bipush (v := 47) hC dX21_skip_146 rfl ?_
        refine hr_icmp_eq (x := _) hC 157 dX21_skip_148 (by decide) (fun c39 => ?_) (fun c39 => ?_)
        · rw [if_pos c39] at h
          obtain rfl := Option.some.inj h
          exact hr_sub _ rfl (JX)
        · rw [if_neg c39] at h
          refine hr_iinc (v := y5 + 1) hC dX21_skip_151 rfl rfl (by decide) ?_
          refine hr_goto hC 117 dX21_skip_154 (by decide) ?_
          exact hr_sub _ rfl (ih _ _ _ _ am1 h JX)
set_option maxRecDepth 20000 in
set_option maxHeartbeats 4000000 in
theorem ll_X21_skip_68 {l : Launch} {E : hc_E} {A : Nat → Prop} {am : Nat → Nat → Nat} {d : Nat} {X : hc_X} (n : Nat) (hD : 2 ≤ d) (hem : X.2.2.2.2.2.2.2.2.2.1.exceptionTable.isEmpty = true) {oc : hc_Oc} {σe : hc_St} (hC : hc_C hc_V0 E cX21_skip 6 RX21 (some .int) d oc σe (l, A, am, []) X) : ∀ (m : Nat) (σ : hc_St) (y2 : Int32) (y3 : Int32) (rl : Int32) (am1 : Nat → Nat → Nat), lp_X21_skip_68 n m y2 y3 σ = some rl → (hc_At hc_V0 E 6 X 190 [(0, .ref (E.2.1 23)), (2, .int rl), (3, .int y3)] [] σ am1 []) → hc_At hc_V0 E 6 X 68 [(0, .ref (E.2.1 23)), (2, .int y2), (3, .int y3)] [] σ am1 [] := by
  have hd1 : 1 ≤ d := by omega
  intro m
  induction m with
  | zero =>
    intro σ y2 y3 rl am1 h
    cases h
  | succ m ih =>
    intro σ y2 y3 rl am1 h JX
    rw [lp_X21_skip_68] at h
    refine hr_iload_n hC dX21_skip_68 rfl ?_
    refine hr_aload_n hC dX21_skip_69 rfl ?_
    refine hr_gI hC F23_8 dX21_skip_70 q2850 ?_
    refine hr_icmp_ge (x := _) hC 190 dX21_skip_73 (by decide) (fun c89 => ?_) (fun c89 => ?_)
    · rw [if_pos c89] at h
      obtain rfl := Option.some.inj h
      exact hr_sub _ rfl (JX)
    · rw [if_neg c89] at h
      refine hr_aload_n hC dX21_skip_76 rfl ?_
      refine hr_gA hC F23_7 rfl dX21_skip_77 q2849 ?_
      refine hr_iload_n hC dX21_skip_80 rfl ?_
      obtain ⟨c90, h⟩ := hk_ok h
      refine hs_bald hC A23_7 c90 dX21_skip_81 ?_
      refine hr_bipush (v := 10) hC dX21_skip_82 rfl ?_
      refine hr_icmp_eq (x := _) hC 190 dX21_skip_84 (by decide) (fun c92 => ?_) (fun c92 => ?_)
      · rw [if_pos c92] at h
        obtain rfl := Option.some.inj h
        exact hr_sub _ rfl (JX)
      · rw [if_neg c92] at h
        refine hr_iinc (v := y2 + 1) hC dX21_skip_87 rfl rfl (by decide) ?_
        refine hr_goto hC 68 dX21_skip_90 (by decide) ?_
        exact hr_sub _ rfl (ih _ _ _ _ am1 h JX)
set_option maxRecDepth 20000 in
set_option maxHeartbeats 4000000 in
theorem ll_X21_skip_4 {l : Launch} {E : hc_E} {A : Nat → Prop} {am : Nat → Nat → Nat} {d : Nat} {X : hc_X} (n : Nat) (hD : 2 ≤ d) (hem : X.2.2.2.2.2.2.2.2.2.1.exceptionTable.isEmpty = true) {oc : hc_Oc} {σe : hc_St} (hC : hc_C hc_V0 E cX21_skip 6 RX21 (some .int) d oc σe (l, A, am, []) X) : ∀ (m : Nat) (σ : hc_St) (y2 : Int32) (y3 : Int32) (rl : Int32) (am1 : Nat → Nat → Nat), lp_X21_skip_4 n m y2 y3 σ = some rl → (hc_At hc_V0 E 6 X 193 [(2, .int rl)] [] σ am1 []) → hc_At hc_V0 E 6 X 4 [(0, .ref (E.2.1 23)), (2, .int y2), (3, .int y3)] [] σ am1 [] := by
  have hd1 : 1 ≤ d := by omega
  intro m
  induction m with
  | zero =>
    intro σ y2 y3 rl am1 h
    cases h
  | succ m ih =>
    intro σ y2 y3 rl am1 h JX
    rw [lp_X21_skip_4] at h
    refine hr_iload_n hC dX21_skip_4 rfl ?_
    refine hr_if_eq (x := _) hC 193 dX21_skip_5 (by decide) (fun c2 => ?_) (fun c2 => ?_)
    · rw [if_pos c2] at h
      obtain rfl := Option.some.inj h
      exact hr_sub _ rfl (JX)
    · rw [if_neg c2] at h
      refine hr_aload_n hC dX21_skip_8 rfl ?_
      refine hr_iload_n hC dX21_skip_9 rfl ?_
      obtain ⟨r3, e4, h⟩ := hx_bind h
      refine hs_callV0 hC 23 [_] _ dX21_skip_10 q3127 q3129 qs175 q335 q3130 np_X21 rfl OB_23 pd_X21_byteAt (Nat.le_of_ble_eq_true rfl) hd1 (okX21_byteAt l E A (d - 1)  (by omega)  e4 am1) rfl ?_
      refine hr_istore hC dX21_skip_13 (by decide) ?_
      refine hr_iload hC dX21_skip_15 rfl ?_
      refine hr_bipush (v := 32) hC dX21_skip_17 rfl ?_
      obtain ⟨r9, e10, h⟩ := hx_bind h
      have J11 : hc_At hc_V0 E 6 X 190 [(0, .ref (E.2.1 23)), (2, .int r9.1), (3, .int r9.2)] [] σ am1 [] := by
        refine hr_goto hC 4 dX21_skip_190 (by decide) ?_
        exact hr_sub _ rfl (ih _ _ _ _ am1 h JX)
      clear h
      have h := e10
      refine hr_icmp_eq (x := _) hC 43 dX21_skip_19 (by decide) (fun c8 => ?_) (fun c8 => ?_)
      · rw [if_pos c8] at h
        refine hr_iinc (v := y2 + 1) hC dX21_skip_43 rfl rfl (by decide) ?_
        refine hr_goto hC 190 dX21_skip_46 (by decide) ?_
        obtain rfl := Option.some.inj h
        exact hr_sub _ rfl (J11)
      · rw [if_neg c8] at h
        refine hr_iload hC dX21_skip_22 rfl ?_
        refine hr_bipush (v := 9) hC dX21_skip_24 rfl ?_
        refine hr_icmp_eq (x := _) hC 43 dX21_skip_26 (by decide) (fun c14 => ?_) (fun c14 => ?_)
        · rw [if_pos c14] at h
          refine hr_iinc (v := y2 + 1) hC dX21_skip_43 rfl rfl (by decide) ?_
          refine hr_goto hC 190 dX21_skip_46 (by decide) ?_
          obtain rfl := Option.some.inj h
          exact hr_sub _ rfl (J11)
        · rw [if_neg c14] at h
          refine hr_iload hC dX21_skip_29 rfl ?_
          refine hr_bipush (v := 10) hC dX21_skip_31 rfl ?_
          refine hr_icmp_eq (x := _) hC 43 dX21_skip_33 (by decide) (fun c16 => ?_) (fun c16 => ?_)
          · rw [if_pos c16] at h
            refine hr_iinc (v := y2 + 1) hC dX21_skip_43 rfl rfl (by decide) ?_
            refine hr_goto hC 190 dX21_skip_46 (by decide) ?_
            obtain rfl := Option.some.inj h
            exact hr_sub _ rfl (J11)
          · rw [if_neg c16] at h
            refine hr_iload hC dX21_skip_36 rfl ?_
            refine hr_bipush (v := 13) hC dX21_skip_38 rfl ?_
            refine hr_icmp_ne (x := _) hC 49 dX21_skip_40 (by decide) (fun c18 => ?_) (fun c18 => ?_)
            · rw [if_neg c18] at h
              refine hr_iload hC dX21_skip_49 rfl ?_
              refine hr_bipush (v := 47) hC dX21_skip_51 rfl ?_
              refine hr_icmp_ne (x := _) hC 93 dX21_skip_53 (by decide) (fun c20 => ?_) (fun c20 => ?_)
              · rw [if_neg c20] at h
                refine hr_iload hC dX21_skip_93 rfl ?_
                refine hr_bipush (v := 47) hC dX21_skip_95 rfl ?_
                refine hr_icmp_ne (x := _) hC 188 dX21_skip_97 (by decide) (fun c22 => ?_) (fun c22 => ?_)
                · rw [if_neg c22] at h
                  refine hr_iconst (v := 0) hC dX21_skip_188 rfl ?_
                  refine hr_istore_n hC dX21_skip_189 (by decide) ?_
                  obtain rfl := Option.some.inj h
                  exact hr_sub _ rfl (J11)
                · rw [if_pos c22] at h
                  refine hr_aload_n hC dX21_skip_100 rfl ?_
                  refine hr_iload_n hC dX21_skip_101 rfl ?_
                  refine hr_iconst (v := 1) hC dX21_skip_102 rfl ?_
                  refine hr_iadd hC dX21_skip_103 ?_
                  obtain ⟨r23, e24, h⟩ := hx_bind h
                  refine hs_callV0 hC 23 [_] _ dX21_skip_104 q3127 q3129 qs175 q335 q3130 np_X21 rfl OB_23 pd_X21_byteAt (Nat.le_of_ble_eq_true rfl) hd1 (okX21_byteAt l E A (d - 1)  (by omega)  e24 am1) rfl ?_
                  refine hr_bipush (v := 42) hC dX21_skip_107 rfl ?_
                  refine hr_icmp_ne (x := _) hC 188 dX21_skip_109 (by decide) (fun c28 => ?_) (fun c28 => ?_)
                  · rw [if_neg c28] at h
                    refine hr_iconst (v := 0) hC dX21_skip_188 rfl ?_
                    refine hr_istore_n hC dX21_skip_189 (by decide) ?_
                    obtain rfl := Option.some.inj h
                    exact hr_sub _ rfl (J11)
                  · rw [if_pos c28] at h
                    refine hr_iload_n hC dX21_skip_112 rfl ?_
                    refine hr_iconst (v := 2) hC dX21_skip_113 rfl ?_
                    refine hr_iadd hC dX21_skip_114 ?_
                    refine hr_istore hC dX21_skip_115 (by decide) ?_
                    obtain ⟨r40, e41, h⟩ := hx_bind h
                    refine hr_sub _ rfl (ll_X21_skip_117 n hD hem hC n _ _ _ _ am1 e41 ?_)
                    refine hr_iload hC dX21_skip_157 rfl ?_
                    refine hr_aload_n hC dX21_skip_159 rfl ?_
                    refine hr_gI hC F23_8 dX21_skip_160 q2850 ?_
                    obtain ⟨v47, hv47, h⟩ := hl_ok h
                    have J54 : ∀ w55 : Int32, (if (gI σ 23 8) ≤ r40 then 0 else 1) = w55 → hc_At hc_V0 E 6 X 171 [(0, .ref (E.2.1 23)), (2, .int y2), (5, .int r40)] [.int w55] σ am1 [] := by
                      intro w55 hw55
                      obtain rfl := hv47.trans hw55
                      refine hr_istore_n hC dX21_skip_171 (by decide) ?_
                      refine hr_iload_n hC dX21_skip_172 rfl ?_
                      obtain ⟨v50, hv50, h⟩ := hl_ok h
                      have J51 : ∀ w52 : Int32, (if v47 = 0 then y2 else (r40 + 2)) = w52 → hc_At hc_V0 E 6 X 184 [(0, .ref (E.2.1 23)), (3, .int v47)] [.int w52] σ am1 [] := by
                        intro w52 hw52
                        obtain rfl := hv50.trans hw52
                        refine hr_istore_n hC dX21_skip_184 (by decide) ?_
                        refine hr_goto hC 190 dX21_skip_185 (by decide) ?_
                        obtain rfl := Option.some.inj h
                        exact hr_sub _ rfl (J11)
                      refine hr_if_eq (x := _) hC 183 dX21_skip_173 (by decide) (fun c53 => ?_) (fun c53 => ?_)
                      · refine hr_iload_n hC dX21_skip_183 rfl ?_
                        exact hr_sub _ rfl (J51 _ (by first | (rw [if_pos c53]; done) | (simp only [if_pos c53]; done) | rfl))
                      · refine hr_iload hC dX21_skip_176 rfl ?_
                        refine hr_iconst (v := 2) hC dX21_skip_178 rfl ?_
                        refine hr_iadd hC dX21_skip_179 ?_
                        refine hr_goto hC 184 dX21_skip_180 (by decide) ?_
                        exact hr_sub _ rfl (J51 _ (by first | (rw [if_neg c53]; done) | (simp only [if_neg c53]; done) | rfl))
                    refine hr_icmp_ge (x := _) hC 170 dX21_skip_163 (by decide) (fun c56 => ?_) (fun c56 => ?_)
                    · refine hr_iconst (v := 0) hC dX21_skip_170 rfl ?_
                      exact hr_sub _ rfl (J54 _ (by first | (rw [if_pos c56]; done) | (simp only [if_pos c56]; done) | rfl))
                    · refine hr_iconst (v := 1) hC dX21_skip_166 rfl ?_
                      refine hr_goto hC 171 dX21_skip_167 (by decide) ?_
                      exact hr_sub _ rfl (J54 _ (by first | (rw [if_neg c56]; done) | (simp only [if_neg c56]; done) | rfl))
              · rw [if_pos c20] at h
                refine hr_aload_n hC dX21_skip_56 rfl ?_
                refine hr_iload_n hC dX21_skip_57 rfl ?_
                refine hr_iconst (v := 1) hC dX21_skip_58 rfl ?_
                refine hr_iadd hC dX21_skip_59 ?_
                obtain ⟨r57, e58, h⟩ := hx_bind h
                refine hs_callV0 hC 23 [_] _ dX21_skip_60 q3127 q3129 qs175 q335 q3130 np_X21 rfl OB_23 pd_X21_byteAt (Nat.le_of_ble_eq_true rfl) hd1 (okX21_byteAt l E A (d - 1)  (by omega)  e58 am1) rfl ?_
                refine hr_bipush (v := 47) hC dX21_skip_63 rfl ?_
                refine hr_icmp_ne (x := _) hC 93 dX21_skip_65 (by decide) (fun c62 => ?_) (fun c62 => ?_)
                · rw [if_neg c62] at h
                  refine hr_iload hC dX21_skip_93 rfl ?_
                  refine hr_bipush (v := 47) hC dX21_skip_95 rfl ?_
                  refine hr_icmp_ne (x := _) hC 188 dX21_skip_97 (by decide) (fun c64 => ?_) (fun c64 => ?_)
                  · rw [if_neg c64] at h
                    refine hr_iconst (v := 0) hC dX21_skip_188 rfl ?_
                    refine hr_istore_n hC dX21_skip_189 (by decide) ?_
                    obtain rfl := Option.some.inj h
                    exact hr_sub _ rfl (J11)
                  · rw [if_pos c64] at h
                    refine hr_aload_n hC dX21_skip_100 rfl ?_
                    refine hr_iload_n hC dX21_skip_101 rfl ?_
                    refine hr_iconst (v := 1) hC dX21_skip_102 rfl ?_
                    refine hr_iadd hC dX21_skip_103 ?_
                    obtain ⟨r65, e66, h⟩ := hx_bind h
                    refine hs_callV0 hC 23 [_] _ dX21_skip_104 q3127 q3129 qs175 q335 q3130 np_X21 rfl OB_23 pd_X21_byteAt (Nat.le_of_ble_eq_true rfl) hd1 (okX21_byteAt l E A (d - 1)  (by omega)  e66 am1) rfl ?_
                    refine hr_bipush (v := 42) hC dX21_skip_107 rfl ?_
                    refine hr_icmp_ne (x := _) hC 188 dX21_skip_109 (by decide) (fun c70 => ?_) (fun c70 => ?_)
                    · rw [if_neg c70] at h
                      refine hr_iconst (v := 0) hC dX21_skip_188 rfl ?_
                      refine hr_istore_n hC dX21_skip_189 (by decide) ?_
                      obtain rfl := Option.some.inj h
                      exact hr_sub _ rfl (J11)
                    · rw [if_pos c70] at h
                      refine hr_iload_n hC dX21_skip_112 rfl ?_
                      refine hr_iconst (v := 2) hC dX21_skip_113 rfl ?_
                      refine hr_iadd hC dX21_skip_114 ?_
                      refine hr_istore hC dX21_skip_115 (by decide) ?_
                      obtain ⟨r71, e72, h⟩ := hx_bind h
                      refine hr_sub _ rfl (ll_X21_skip_117 n hD hem hC n _ _ _ _ am1 e72 ?_)
                      refine hr_iload hC dX21_skip_157 rfl ?_
                      refine hr_aload_n hC dX21_skip_159 rfl ?_
                      refine hr_gI hC F23_8 dX21_skip_160 q2850 ?_
                      obtain ⟨v78, hv78, h⟩ := hl_ok h
                      have J85 : ∀ w86 : Int32, (if (gI σ 23 8) ≤ r71 then 0 else 1) = w86 → hc_At hc_V0 E 6 X 171 [(0, .ref (E.2.1 23)), (2, .int y2), (5, .int r71)] [.int w86] σ am1 [] := by
                        intro w86 hw86
                        obtain rfl := hv78.trans hw86
                        refine hr_istore_n hC dX21_skip_171 (by decide) ?_
                        refine hr_iload_n hC dX21_skip_172 rfl ?_
                        obtain ⟨v81, hv81, h⟩ := hl_ok h
                        have J82 : ∀ w83 : Int32, (if v78 = 0 then y2 else (r71 + 2)) = w83 → hc_At hc_V0 E 6 X 184 [(0, .ref (E.2.1 23)), (3, .int v78)] [.int w83] σ am1 [] := by
                          intro w83 hw83
                          obtain rfl := hv81.trans hw83
                          refine hr_istore_n hC dX21_skip_184 (by decide) ?_
                          refine hr_goto hC 190 dX21_skip_185 (by decide) ?_
                          obtain rfl := Option.some.inj h
                          exact hr_sub _ rfl (J11)
                        refine hr_if_eq (x := _) hC 183 dX21_skip_173 (by decide) (fun c84 => ?_) (fun c84 => ?_)
                        · refine hr_iload_n hC dX21_skip_183 rfl ?_
                          exact hr_sub _ rfl (J82 _ (by first | (rw [if_pos c84]; done) | (simp only [if_pos c84]; done) | rfl))
                        · refine hr_iload hC dX21_skip_176 rfl ?_
                          refine hr_iconst (v := 2) hC dX21_skip_178 rfl ?_
                          refine hr_iadd hC dX21_skip_179 ?_
                          refine hr_goto hC 184 dX21_skip_180 (by decide) ?_
                          exact hr_sub _ rfl (J82 _ (by first | (rw [if_neg c84]; done) | (simp only [if_neg c84]; done) | rfl))
                      refine hr_icmp_ge (x := _) hC 170 dX21_skip_163 (by decide) (fun c87 => ?_) (fun c87 => ?_)
                      · refine hr_iconst (v := 0) hC dX21_skip_170 rfl ?_
                        exact hr_sub _ rfl (J85 _ (by first | (rw [if_pos c87]; done) | (simp only [if_pos c87]; done) | rfl))
                      · refine hr_iconst (v := 1) hC dX21_skip_166 rfl ?_
                        refine hr_goto hC 171 dX21_skip_167 (by decide) ?_
                        exact hr_sub _ rfl (J85 _ (by first | (rw [if_neg c87]; done) | (simp only [if_neg c87]; done) | rfl))
                · rw [if_pos c62] at h
                  obtain ⟨r93, e94, h⟩ := hx_bind h
                  refine hr_sub _ rfl (ll_X21_skip_68 n hD hem hC n _ _ _ _ am1 e94 ?_)
                  obtain rfl := Option.some.inj h
                  exact hr_sub _ rfl (J11)
            · rw [if_pos c18] at h
              refine hr_iinc (v := y2 + 1) hC dX21_skip_43 rfl rfl (by decide) ?_
              refine hr_goto hC 190 dX21_skip_46 (by decide) ?_
              obtain rfl := Option.some.inj h
              exact hr_sub _ rfl (J11)
set_option maxRecDepth 20000 in
set_option maxHeartbeats 4000000 in
theorem okX21_skip (l : Launch) (E : hc_E) (A : Nat → Prop) (d : Nat) (n : Nat) (hD : 2 ≤ d) {x1 : Int32} {σ : hc_St} {r : Int32} (h : fm_X21_skip n x1 σ = some r) (am : Nat → Nat → Nat) : hc_M l hc_V0 yX21_skip (ws_ yX21_skip cX21_skip 6 (some .int)) d E A [.ref (E.2.1 23), .int x1] am [] σ (.inl (some (.int r))) σ := by
  have hd1 : 1 ≤ d := by omega
  refine hc_enter2 (own := RX21) [(0, .ref (E.2.1 23)), (1, .int x1)] pl_X21 rfl hc_V0_st hc_G0_nd rfl (Nat.le_of_ble_eq_true rfl) (fun X hC hem => ?_)
  unfold fm_X21_skip at h
  refine hr_iload_n hC dX21_skip_0 rfl ?_
  refine hr_istore_n hC dX21_skip_1 (by decide) ?_
  refine hr_iconst (v := 1) hC dX21_skip_2 rfl ?_
  refine hr_istore_n hC dX21_skip_3 (by decide) ?_
  obtain ⟨r98, e99, h⟩ := hx_bind h
  refine hr_sub _ rfl (ll_X21_skip_4 n hD hem hC n _ _ _ _ am e99 ?_)
  refine hr_iload_n hC dX21_skip_193 rfl ?_
  obtain rfl := Option.some.inj h
  exact hr_iret hC dX21_skip_194
/-- HomeCompilerModel.isLetter(I)Z -/
def fm_X21_isLetter  (x0 : Int32) (σ : hc_St) : Option Int32 := hl (α := Int32) ((if x0 < 97 then (if x0 < 65 then (if x0 = 95 then 1 else 0) else (if x0 ≤ 90 then 1 else (if x0 = 95 then 1 else 0))) else (if x0 ≤ 122 then 1 else (if x0 < 65 then (if x0 = 95 then 1 else 0) else (if x0 ≤ 90 then 1 else (if x0 = 95 then 1 else 0)))))) fun v3 => hk (hb01 v3) <| some v3
set_option maxRecDepth 20000 in
set_option maxHeartbeats 4000000 in
theorem okX21_isLetter (l : Launch) (E : hc_E) (A : Nat → Prop) (d : Nat)  (hD : 1 ≤ d) {x0 : Int32} {σ : hc_St} {r : Int32} (h : fm_X21_isLetter  x0 σ = some r) (am : Nat → Nat → Nat) : hc_M l hc_V0 yX21_isLetter (ws_ yX21_isLetter cX21_isLetter 1 (some .boolean)) d E A [.int x0] am [] σ (.inl (some (.int r))) σ := by
  have hd1 : 1 ≤ d := by omega
  refine hc_enter2 (own := RX21) [(0, .int x0)] pl_X21 rfl hc_V0_st hc_G0_nd rfl (Nat.le_of_ble_eq_true rfl) (fun X hC hem => ?_)
  unfold fm_X21_isLetter at h
  refine hr_iload_n hC dX21_isLetter_0 rfl ?_
  refine hr_bipush (v := 97) hC dX21_isLetter_1 rfl ?_
  obtain ⟨v3, hv3, h⟩ := hl_ok h
  have J5 : ∀ w6 : Int32, (if x0 < 97 then (if x0 < 65 then (if x0 = 95 then 1 else 0) else (if x0 ≤ 90 then 1 else (if x0 = 95 then 1 else 0))) else (if x0 ≤ 122 then 1 else (if x0 < 65 then (if x0 = 95 then 1 else 0) else (if x0 ≤ 90 then 1 else (if x0 = 95 then 1 else 0))))) = w6 → hc_At hc_V0 E 1 X 35 [] [.int w6] σ am [] := by
    intro w6 hw6
    obtain rfl := hv3.trans hw6
    obtain ⟨c4, h⟩ := hk_ok h
    obtain rfl := Option.some.inj h
    exact hr_zret hC (hb01_n c4) dX21_isLetter_35
  refine hr_icmp_lt (x := _) hC 12 dX21_isLetter_3 (by decide) (fun c7 => ?_) (fun c7 => ?_)
  · refine hr_iload_n hC dX21_isLetter_12 rfl ?_
    refine hr_bipush (v := 65) hC dX21_isLetter_13 rfl ?_
    refine hr_icmp_lt (x := _) hC 24 dX21_isLetter_15 (by decide) (fun c8 => ?_) (fun c8 => ?_)
    · refine hr_iload_n hC dX21_isLetter_24 rfl ?_
      refine hr_bipush (v := 95) hC dX21_isLetter_25 rfl ?_
      refine hr_icmp_ne (x := _) hC 34 dX21_isLetter_27 (by decide) (fun c9 => ?_) (fun c9 => ?_)
      · refine hr_iconst (v := 0) hC dX21_isLetter_34 rfl ?_
        exact hr_sub _ rfl (J5 _ (by first | (rw [if_pos c7, if_pos c8, if_neg c9]; done) | (simp only [if_pos c7, if_pos c8, if_neg c9]; done) | rfl))
      · refine hr_iconst (v := 1) hC dX21_isLetter_30 rfl ?_
        refine hr_goto hC 35 dX21_isLetter_31 (by decide) ?_
        exact hr_sub _ rfl (J5 _ (by first | (rw [if_pos c7, if_pos c8, if_pos c9]; done) | (simp only [if_pos c7, if_pos c8, if_pos c9]; done) | rfl))
    · refine hr_iload_n hC dX21_isLetter_18 rfl ?_
      refine hr_bipush (v := 90) hC dX21_isLetter_19 rfl ?_
      refine hr_icmp_le (x := _) hC 30 dX21_isLetter_21 (by decide) (fun c10 => ?_) (fun c10 => ?_)
      · refine hr_iconst (v := 1) hC dX21_isLetter_30 rfl ?_
        refine hr_goto hC 35 dX21_isLetter_31 (by decide) ?_
        exact hr_sub _ rfl (J5 _ (by first | (rw [if_pos c7, if_neg c8, if_pos c10]; done) | (simp only [if_pos c7, if_neg c8, if_pos c10]; done) | rfl))
      · refine hr_iload_n hC dX21_isLetter_24 rfl ?_
        refine hr_bipush (v := 95) hC dX21_isLetter_25 rfl ?_
        refine hr_icmp_ne (x := _) hC 34 dX21_isLetter_27 (by decide) (fun c11 => ?_) (fun c11 => ?_)
        · refine hr_iconst (v := 0) hC dX21_isLetter_34 rfl ?_
          exact hr_sub _ rfl (J5 _ (by first | (rw [if_pos c7, if_neg c8, if_neg c10, if_neg c11]; done) | (simp only [if_pos c7, if_neg c8, if_neg c10, if_neg c11]; done) | rfl))
        · refine hr_iconst (v := 1) hC dX21_isLetter_30 rfl ?_
          refine hr_goto hC 35 dX21_isLetter_31 (by decide) ?_
          exact hr_sub _ rfl (J5 _ (by first | (rw [if_pos c7, if_neg c8, if_neg c10, if_pos c11]; done) | (simp only [if_pos c7, if_neg c8, if_neg c10, if_pos c11]; done) | rfl))
  · refine hr_iload_n hC dX21_isLetter_6 rfl ?_
    refine hr_bipush (v := 122) hC dX21_isLetter_7 rfl ?_
    refine hr_icmp_le (x := _) hC 30 dX21_isLetter_9 (by decide) (fun c12 => ?_) (fun c12 => ?_)
    · refine hr_iconst (v := 1) hC dX21_isLetter_30 rfl ?_
      refine hr_goto hC 35 dX21_isLetter_31 (by decide) ?_
      exact hr_sub _ rfl (J5 _ (by first | (rw [if_neg c7, if_pos c12]; done) | (simp only [if_neg c7, if_pos c12]; done) | rfl))
    · refine hr_iload_n hC dX21_isLetter_12 rfl ?_
      refine hr_bipush (v := 65) hC dX21_isLetter_13 rfl ?_
      refine hr_icmp_lt (x := _) hC 24 dX21_isLetter_15 (by decide) (fun c13 => ?_) (fun c13 => ?_)
      · refine hr_iload_n hC dX21_isLetter_24 rfl ?_
        refine hr_bipush (v := 95) hC dX21_isLetter_25 rfl ?_
        refine hr_icmp_ne (x := _) hC 34 dX21_isLetter_27 (by decide) (fun c14 => ?_) (fun c14 => ?_)
        · refine hr_iconst (v := 0) hC dX21_isLetter_34 rfl ?_
          exact hr_sub _ rfl (J5 _ (by first | (rw [if_neg c7, if_neg c12, if_pos c13, if_neg c14]; done) | (simp only [if_neg c7, if_neg c12, if_pos c13, if_neg c14]; done) | rfl))
        · refine hr_iconst (v := 1) hC dX21_isLetter_30 rfl ?_
          refine hr_goto hC 35 dX21_isLetter_31 (by decide) ?_
          exact hr_sub _ rfl (J5 _ (by first | (rw [if_neg c7, if_neg c12, if_pos c13, if_pos c14]; done) | (simp only [if_neg c7, if_neg c12, if_pos c13, if_pos c14]; done) | rfl))
      · refine hr_iload_n hC dX21_isLetter_18 rfl ?_
        refine hr_bipush (v := 90) hC dX21_isLetter_19 rfl ?_
        refine hr_icmp_le (x := _) hC 30 dX21_isLetter_21 (by decide) (fun c15 => ?_) (fun c15 => ?_)
        · refine hr_iconst (v := 1) hC dX21_isLetter_30 rfl ?_
          refine hr_goto hC 35 dX21_isLetter_31 (by decide) ?_
          exact hr_sub _ rfl (J5 _ (by first | (rw [if_neg c7, if_neg c12, if_neg c13, if_pos c15]; done) | (simp only [if_neg c7, if_neg c12, if_neg c13, if_pos c15]; done) | rfl))
        · refine hr_iload_n hC dX21_isLetter_24 rfl ?_
          refine hr_bipush (v := 95) hC dX21_isLetter_25 rfl ?_
          refine hr_icmp_ne (x := _) hC 34 dX21_isLetter_27 (by decide) (fun c16 => ?_) (fun c16 => ?_)
          · refine hr_iconst (v := 0) hC dX21_isLetter_34 rfl ?_
            exact hr_sub _ rfl (J5 _ (by first | (rw [if_neg c7, if_neg c12, if_neg c13, if_neg c15, if_neg c16]; done) | (simp only [if_neg c7, if_neg c12, if_neg c13, if_neg c15, if_neg c16]; done) | rfl))
          · refine hr_iconst (v := 1) hC dX21_isLetter_30 rfl ?_
            refine hr_goto hC 35 dX21_isLetter_31 (by decide) ?_
            exact hr_sub _ rfl (J5 _ (by first | (rw [if_neg c7, if_neg c12, if_neg c13, if_neg c15, if_pos c16]; done) | (simp only [if_neg c7, if_neg c12, if_neg c13, if_neg c15, if_pos c16]; done) | rfl))
/-- HomeCompilerModel.isDigit(I)Z -/
def fm_X21_isDigit  (x0 : Int32) (σ : hc_St) : Option Int32 := hl (α := Int32) ((if x0 < 48 then 0 else (if 57 < x0 then 0 else 1))) fun v3 => hk (hb01 v3) <| some v3
set_option maxRecDepth 20000 in
set_option maxHeartbeats 4000000 in
theorem okX21_isDigit (l : Launch) (E : hc_E) (A : Nat → Prop) (d : Nat)  (hD : 1 ≤ d) {x0 : Int32} {σ : hc_St} {r : Int32} (h : fm_X21_isDigit  x0 σ = some r) (am : Nat → Nat → Nat) : hc_M l hc_V0 yX21_isDigit (ws_ yX21_isDigit cX21_isDigit 1 (some .boolean)) d E A [.int x0] am [] σ (.inl (some (.int r))) σ := by
  have hd1 : 1 ≤ d := by omega
  refine hc_enter2 (own := RX21) [(0, .int x0)] pl_X21 rfl hc_V0_st hc_G0_nd rfl (Nat.le_of_ble_eq_true rfl) (fun X hC hem => ?_)
  unfold fm_X21_isDigit at h
  refine hr_iload_n hC dX21_isDigit_0 rfl ?_
  refine hr_bipush (v := 48) hC dX21_isDigit_1 rfl ?_
  obtain ⟨v3, hv3, h⟩ := hl_ok h
  have J5 : ∀ w6 : Int32, (if x0 < 48 then 0 else (if 57 < x0 then 0 else 1)) = w6 → hc_At hc_V0 E 1 X 17 [] [.int w6] σ am [] := by
    intro w6 hw6
    obtain rfl := hv3.trans hw6
    obtain ⟨c4, h⟩ := hk_ok h
    obtain rfl := Option.some.inj h
    exact hr_zret hC (hb01_n c4) dX21_isDigit_17
  refine hr_icmp_lt (x := _) hC 16 dX21_isDigit_3 (by decide) (fun c7 => ?_) (fun c7 => ?_)
  · refine hr_iconst (v := 0) hC dX21_isDigit_16 rfl ?_
    exact hr_sub _ rfl (J5 _ (by first | (rw [if_pos c7]; done) | (simp only [if_pos c7]; done) | rfl))
  · refine hr_iload_n hC dX21_isDigit_6 rfl ?_
    refine hr_bipush (v := 57) hC dX21_isDigit_7 rfl ?_
    refine hr_icmp_gt (x := _) hC 16 dX21_isDigit_9 (by decide) (fun c8 => ?_) (fun c8 => ?_)
    · refine hr_iconst (v := 0) hC dX21_isDigit_16 rfl ?_
      exact hr_sub _ rfl (J5 _ (by first | (rw [if_neg c7, if_pos c8]; done) | (simp only [if_neg c7, if_pos c8]; done) | rfl))
    · refine hr_iconst (v := 1) hC dX21_isDigit_12 rfl ?_
      refine hr_goto hC 17 dX21_isDigit_13 (by decide) ?_
      exact hr_sub _ rfl (J5 _ (by first | (rw [if_neg c7, if_neg c8]; done) | (simp only [if_neg c7, if_neg c8]; done) | rfl))
def lp_X21_stands_5 (n : Nat) : Nat → Int32 → Int32 → Int32 → Int32 → hc_St → Option (Int32)
  | 0, _, _, _, _, _ => none
  | m + 1, y1, y2, y3, y4, σ => hk (hsi y2) <| if (sLen y2) ≤ y4 then (some (y3)) else (if y3 = 0 then (some (y3)) else (Option.bind (fm_X21_byteAt ((y1 + y4)) σ) fun r6 => hk (hsc y2 y4) <| hl (α := Int32) ((if r6 = (sCh y2 y4) then 1 else 0)) fun v13 => lp_X21_stands_5 n m y1 y2 v13 ((y4 + 1)) σ))
/-- HomeCompilerModel.stands(ILjava/lang/String;)Z -/
def fm_X21_stands (n : Nat) (x1 : Int32) (x2 : Int32) (σ : hc_St) : Option Int32 := Option.bind (lp_X21_stands_5 n n x1 x2 1 0 σ) fun r17 => hk (hb01 r17) <| some r17
set_option maxRecDepth 20000 in
set_option maxHeartbeats 4000000 in
theorem ll_X21_stands_5 {l : Launch} {E : hc_E} {A : Nat → Prop} {am : Nat → Nat → Nat} {d : Nat} {X : hc_X} (n : Nat) (hD : 9 ≤ d) (hem : X.2.2.2.2.2.2.2.2.2.1.exceptionTable.isEmpty = true) {oc : hc_Oc} {σe : hc_St} (hC : hc_C hc_V0 E cX21_stands 5 RX21 (some .boolean) d oc σe (l, A, am, []) X) : ∀ (m : Nat) (σ : hc_St) (y1 : Int32) (y2 : Int32) (y3 : Int32) (y4 : Int32) (rl : Int32) (am1 : Nat → Nat → Nat), lp_X21_stands_5 n m y1 y2 y3 y4 σ = some rl → (hc_At hc_V0 E 5 X 47 [(3, .int rl)] [] σ am1 []) → hc_At hc_V0 E 5 X 5 [(0, .ref (E.2.1 23)), (1, .int y1), (2, .ref (E.2.2.2.1 (y2 : Int32).toNatClampNeg)), (3, .int y3), (4, .int y4)] [] σ am1 [] := by
  have hd1 : 1 ≤ d := by omega
  have hd8 : 9 ≤ d := by omega
  intro m
  induction m with
  | zero =>
    intro σ y1 y2 y3 y4 rl am1 h
    cases h
  | succ m ih =>
    intro σ y1 y2 y3 y4 rl am1 h JX
    rw [lp_X21_stands_5] at h
    refine hr_iload hC dX21_stands_5 rfl ?_
    refine hr_aload_n hC dX21_stands_7 rfl ?_
    obtain ⟨c1, h⟩ := hk_ok h
    refine hr_slen hC c1 dX21_stands_8 q3145 hd8 (Nat.le_of_ble_eq_true rfl) ?_
    refine hr_icmp_ge (x := _) hC 47 dX21_stands_11 (by decide) (fun c3 => ?_) (fun c3 => ?_)
    · rw [if_pos c3] at h
      obtain rfl := Option.some.inj h
      exact hr_sub _ rfl (JX)
    · rw [if_neg c3] at h
      refine hr_iload_n hC dX21_stands_14 rfl ?_
      refine hr_if_eq (x := _) hC 47 dX21_stands_15 (by decide) (fun c5 => ?_) (fun c5 => ?_)
      · rw [if_pos c5] at h
        obtain rfl := Option.some.inj h
        exact hr_sub _ rfl (JX)
      · rw [if_neg c5] at h
        refine hr_aload_n hC dX21_stands_18 rfl ?_
        refine hr_iload_n hC dX21_stands_19 rfl ?_
        refine hr_iload hC dX21_stands_20 rfl ?_
        refine hr_iadd hC dX21_stands_22 ?_
        obtain ⟨r6, e7, h⟩ := hx_bind h
        refine hs_callV0 hC 23 [_] _ dX21_stands_23 q3127 q3129 qs175 q335 q3130 np_X21 rfl OB_23 pd_X21_byteAt (Nat.le_of_ble_eq_true rfl) hd1 (okX21_byteAt l E A (d - 1)  (by omega)  e7 am1) rfl ?_
        refine hr_aload_n hC dX21_stands_26 rfl ?_
        refine hr_iload hC dX21_stands_27 rfl ?_
        obtain ⟨c10, h⟩ := hk_ok h
        refine hr_schar hC c10 dX21_stands_29 q3150 hd8 (Nat.le_of_ble_eq_true rfl) ?_
        obtain ⟨v13, hv13, h⟩ := hl_ok h
        have J14 : ∀ w15 : Int32, (if r6 = (sCh y2 y4) then 1 else 0) = w15 → hc_At hc_V0 E 5 X 40 [(0, .ref (E.2.1 23)), (1, .int y1), (2, .ref (E.2.2.2.1 (y2 : Int32).toNatClampNeg)), (4, .int y4)] [.int w15] σ am1 [] := by
          intro w15 hw15
          obtain rfl := hv13.trans hw15
          refine hr_istore_n hC dX21_stands_40 (by decide) ?_
          refine hr_iinc (v := y4 + 1) hC dX21_stands_41 rfl rfl (by decide) ?_
          refine hr_goto hC 5 dX21_stands_44 (by decide) ?_
          exact hr_sub _ rfl (ih _ _ _ _ _ _ am1 h JX)
        refine hr_icmp_ne (x := _) hC 39 dX21_stands_32 (by decide) (fun c16 => ?_) (fun c16 => ?_)
        · refine hr_iconst (v := 0) hC dX21_stands_39 rfl ?_
          exact hr_sub _ rfl (J14 _ (by first | (rw [if_neg c16]; done) | (simp only [if_neg c16]; done) | rfl))
        · refine hr_iconst (v := 1) hC dX21_stands_35 rfl ?_
          refine hr_goto hC 40 dX21_stands_36 (by decide) ?_
          exact hr_sub _ rfl (J14 _ (by first | (rw [if_pos c16]; done) | (simp only [if_pos c16]; done) | rfl))
set_option maxRecDepth 20000 in
set_option maxHeartbeats 4000000 in
theorem okX21_stands (l : Launch) (E : hc_E) (A : Nat → Prop) (d : Nat) (n : Nat) (hD : 9 ≤ d) {x1 : Int32} {x2 : Int32} {σ : hc_St} {r : Int32} (h : fm_X21_stands n x1 x2 σ = some r) (am : Nat → Nat → Nat) : hc_M l hc_V0 yX21_stands (ws_ yX21_stands cX21_stands 5 (some .boolean)) d E A [.ref (E.2.1 23), .int x1, .ref (E.2.2.2.1 (x2 : Int32).toNatClampNeg)] am [] σ (.inl (some (.int r))) σ := by
  have hd1 : 1 ≤ d := by omega
  have hd8 : 9 ≤ d := by omega
  refine hc_enter2 (own := RX21) [(0, .ref (E.2.1 23)), (1, .int x1), (2, .ref (E.2.2.2.1 (x2 : Int32).toNatClampNeg))] pl_X21 rfl hc_V0_st hc_G0_nd rfl (Nat.le_of_ble_eq_true rfl) (fun X hC hem => ?_)
  unfold fm_X21_stands at h
  refine hr_iconst (v := 1) hC dX21_stands_0 rfl ?_
  refine hr_istore_n hC dX21_stands_1 (by decide) ?_
  refine hr_iconst (v := 0) hC dX21_stands_2 rfl ?_
  refine hr_istore hC dX21_stands_3 (by decide) ?_
  obtain ⟨r17, e18, h⟩ := hx_bind h
  refine hr_sub _ rfl (ll_X21_stands_5 n hD hem hC n _ _ _ _ _ _ am e18 ?_)
  refine hr_iload_n hC dX21_stands_47 rfl ?_
  obtain ⟨c22, h⟩ := hk_ok h
  obtain rfl := Option.some.inj h
  exact hr_zret hC (hb01_n c22) dX21_stands_48
def lp_X21_keyword_2 (n : Nat) : Nat → Int32 → Int32 → Int32 → hc_St → Option Int32
  | 0, _, _, _, _ => none
  | m + 1, y1, y2, y3, σ => if (nI (gL σ 23 0)) ≤ y3 then (some ((-1))) else (hk (inb y3 (gL σ 23 0)) <| hk (hsi ((gC σ 23 0 y3))) <| if (sLen ((gC σ 23 0 y3))) = y2 then (hk (inb y3 (gL σ 23 0)) <| Option.bind (fm_X21_stands n y1 ((gC σ 23 0 y3)) σ) fun r8 => if r8 = 0 then (lp_X21_keyword_2 n m y1 y2 ((y3 + 1)) σ) else (some y3)) else (lp_X21_keyword_2 n m y1 y2 ((y3 + 1)) σ))
/-- HomeCompilerModel.keyword(II)I -/
def fm_X21_keyword (n : Nat) (x1 : Int32) (x2 : Int32) (σ : hc_St) : Option Int32 := lp_X21_keyword_2 n n x1 x2 0 σ
set_option maxRecDepth 20000 in
set_option maxHeartbeats 4000000 in
theorem ll_X21_keyword_2 {l : Launch} {E : hc_E} {A : Nat → Prop} {am : Nat → Nat → Nat} {d : Nat} {X : hc_X} (n : Nat) (hD : 10 ≤ d) (hem : X.2.2.2.2.2.2.2.2.2.1.exceptionTable.isEmpty = true) : ∀ (m : Nat) (σ : hc_St) (y1 : Int32) (y2 : Int32) (y3 : Int32) (rl : Int32), lp_X21_keyword_2 n m y1 y2 y3 σ = some rl → hc_C hc_V0 E cX21_keyword 4 RX21 (some .int) d (.inl (some (.int rl))) σ (l, A, am, []) X → ∀ am1, hc_At hc_V0 E 4 X 2 [(0, .ref (E.2.1 23)), (1, .int y1), (2, .int y2), (3, .int y3)] [] σ am1 [] := by
  have hd1 : 1 ≤ d := by omega
  have hd8 : 9 ≤ d := by omega
  intro m
  induction m with
  | zero =>
    intro σ y1 y2 y3 rl h
    cases h
  | succ m ih =>
    intro σ y1 y2 y3 rl h hC am1
    rw [lp_X21_keyword_2] at h
    refine hr_iload_n hC dX21_keyword_2 rfl ?_
    refine hr_aload_n hC dX21_keyword_3 rfl ?_
    refine hr_gA hC F23_0 rfl dX21_keyword_4 q2842 ?_
    refine hs_alen4 hC A23_0 dX21_keyword_7 ?_
    refine hr_icmp_ge (x := _) hC 46 dX21_keyword_8 (by decide) (fun c2 => ?_) (fun c2 => ?_)
    · rw [if_pos c2] at h
      refine hr_iconst (v := (-1)) hC dX21_keyword_46 rfl ?_
      obtain rfl := Option.some.inj h
      exact hr_iret hC dX21_keyword_47
    · rw [if_neg c2] at h
      refine hr_aload_n hC dX21_keyword_11 rfl ?_
      refine hr_gA hC F23_0 rfl dX21_keyword_12 q2842 ?_
      refine hr_iload_n hC dX21_keyword_15 rfl ?_
      obtain ⟨c3, h⟩ := hk_ok h
      refine hs_sald hC A23_0 c3 dX21_keyword_16 ?_
      obtain ⟨c4, h⟩ := hk_ok h
      refine hr_slen hC c4 dX21_keyword_17 q3145 hd8 (Nat.le_of_ble_eq_true rfl) ?_
      refine hr_iload_n hC dX21_keyword_20 rfl ?_
      refine hr_icmp_ne (x := _) hC 40 dX21_keyword_21 (by decide) (fun c6 => ?_) (fun c6 => ?_)
      · rw [if_neg c6] at h
        refine hr_iinc (v := y3 + 1) hC dX21_keyword_40 rfl rfl (by decide) ?_
        refine hr_goto hC 2 dX21_keyword_43 (by decide) ?_
        exact hr_sub _ rfl (ih _ _ _ _ _ h hC am1)
      · rw [if_pos c6] at h
        refine hr_aload_n hC dX21_keyword_24 rfl ?_
        refine hr_iload_n hC dX21_keyword_25 rfl ?_
        refine hr_aload_n hC dX21_keyword_26 rfl ?_
        refine hr_gA hC F23_0 rfl dX21_keyword_27 q2842 ?_
        refine hr_iload_n hC dX21_keyword_30 rfl ?_
        obtain ⟨c7, h⟩ := hk_ok h
        refine hs_sald hC A23_0 c7 dX21_keyword_31 ?_
        obtain ⟨r8, e9, h⟩ := hx_bind h
        refine hs_callV0 hC 23 [_, _] _ dX21_keyword_32 q3146 q3148 qs178 q335 q3149 np_X21 rfl OB_23 pd_X21_stands (Nat.le_of_ble_eq_true rfl) hd1 (okX21_stands l E A (d - 1) n (by omega)  e9 am1) rfl ?_
        refine hr_if_eq (x := _) hC 40 dX21_keyword_35 (by decide) (fun c13 => ?_) (fun c13 => ?_)
        · rw [if_pos c13] at h
          refine hr_iinc (v := y3 + 1) hC dX21_keyword_40 rfl rfl (by decide) ?_
          refine hr_goto hC 2 dX21_keyword_43 (by decide) ?_
          exact hr_sub _ rfl (ih _ _ _ _ _ h hC am1)
        · rw [if_neg c13] at h
          refine hr_iload_n hC dX21_keyword_38 rfl ?_
          obtain rfl := Option.some.inj h
          exact hr_iret hC dX21_keyword_39
set_option maxRecDepth 20000 in
set_option maxHeartbeats 4000000 in
theorem okX21_keyword (l : Launch) (E : hc_E) (A : Nat → Prop) (d : Nat) (n : Nat) (hD : 10 ≤ d) {x1 : Int32} {x2 : Int32} {σ : hc_St} {r : Int32} (h : fm_X21_keyword n x1 x2 σ = some r) (am : Nat → Nat → Nat) : hc_M l hc_V0 yX21_keyword (ws_ yX21_keyword cX21_keyword 4 (some .int)) d E A [.ref (E.2.1 23), .int x1, .int x2] am [] σ (.inl (some (.int r))) σ := by
  have hd1 : 1 ≤ d := by omega
  have hd8 : 9 ≤ d := by omega
  refine hc_enter2 (own := RX21) [(0, .ref (E.2.1 23)), (1, .int x1), (2, .int x2)] pl_X21 rfl hc_V0_st hc_G0_nd rfl (Nat.le_of_ble_eq_true rfl) (fun X hC hem => ?_)
  unfold fm_X21_keyword at h
  refine hr_iconst (v := 0) hC dX21_keyword_0 rfl ?_
  refine hr_istore_n hC dX21_keyword_1 (by decide) ?_
  exact hr_sub _ rfl (ll_X21_keyword_2 n hD hem n _ _ _ _ _ h hC am)
/-- HomeCompilerModel.token(IIII)V -/
def fm_X21_token  (x1 : Int32) (x2 : Int32) (x3 : Int32) (x4 : Int32) (σ : hc_St) : Option hc_St := hk (inb ((gI σ 23 10)) (gL σ 23 11)) <| hl (pC σ 23 11 ((gI σ 23 10)) x1) fun σ2 => hk (inb ((gI σ2 23 10)) (gL σ2 23 12)) <| hl (pC σ2 23 12 ((gI σ2 23 10)) x2) fun σ4 => hk (inb ((gI σ4 23 10)) (gL σ4 23 13)) <| hl (pC σ4 23 13 ((gI σ4 23 10)) ((x3.toInt8.toInt32))) fun σ6 => hk (inb ((gI σ6 23 10)) (gL σ6 23 14)) <| hl (pC σ6 23 14 ((gI σ6 23 10)) x4) fun σ8 => hl (pI σ8 23 10 ((((gI σ8 23 10)) + 1))) fun σ9 => some σ9
set_option maxRecDepth 20000 in
set_option maxHeartbeats 4000000 in
theorem okX21_token (l : Launch) (E : hc_E) (A : Nat → Prop) (d : Nat)  (hD : 1 ≤ d) {x1 : Int32} {x2 : Int32} {x3 : Int32} {x4 : Int32} {σ : hc_St} {r : hc_St} (h : fm_X21_token  x1 x2 x3 x4 σ = some r) (am : Nat → Nat → Nat) : hc_M l hc_V0 yX21_token (ws_ yX21_token cX21_token 5 none) d E A [.ref (E.2.1 23), .int x1, .int x2, .int x3, .int x4] am [] σ (.inl none) r := by
  have hd1 : 1 ≤ d := by omega
  refine hc_enter2 (own := RX21) [(0, .ref (E.2.1 23)), (1, .int x1), (2, .int x2), (3, .int x3), (4, .int x4)] pl_X21 rfl hc_V0_st hc_G0_nd rfl (Nat.le_of_ble_eq_true rfl) (fun X hC hem => ?_)
  unfold fm_X21_token at h
  refine hr_aload_n hC dX21_token_0 rfl ?_
  refine hr_gA hC F23_11 rfl dX21_token_1 q2853 ?_
  refine hr_aload_n hC dX21_token_4 rfl ?_
  refine hr_gI hC F23_10 dX21_token_5 q2852 ?_
  refine hr_iload_n hC dX21_token_8 rfl ?_
  obtain ⟨c1, h⟩ := hk_ok h
  obtain ⟨σ2, hσ2, h⟩ := hl_ok h
  refine hs_iast hC A23_11 c1 dX21_token_9 ?_
  rw [← hσ2]
  refine hr_aload_n hC dX21_token_10 rfl ?_
  refine hr_gA hC F23_12 rfl dX21_token_11 q2854 ?_
  refine hr_aload_n hC dX21_token_14 rfl ?_
  refine hr_gI hC F23_10 dX21_token_15 q2852 ?_
  refine hr_iload_n hC dX21_token_18 rfl ?_
  obtain ⟨c3, h⟩ := hk_ok h
  obtain ⟨σ4, hσ4, h⟩ := hl_ok h
  refine hs_iast hC A23_12 c3 dX21_token_19 ?_
  rw [← hσ4]
  refine hr_aload_n hC dX21_token_20 rfl ?_
  refine hr_gA hC F23_13 rfl dX21_token_21 q2855 ?_
  refine hr_aload_n hC dX21_token_24 rfl ?_
  refine hr_gI hC F23_10 dX21_token_25 q2852 ?_
  refine hr_iload_n hC dX21_token_28 rfl ?_
  refine hr_i2b hC dX21_token_29 ?_
  obtain ⟨c5, h⟩ := hk_ok h
  obtain ⟨σ6, hσ6, h⟩ := hl_ok h
  refine hs_bast hC A23_13 c5 dX21_token_30 ?_
  rw [← hσ6]
  refine hr_aload_n hC dX21_token_31 rfl ?_
  refine hr_gA hC F23_14 rfl dX21_token_32 q2856 ?_
  refine hr_aload_n hC dX21_token_35 rfl ?_
  refine hr_gI hC F23_10 dX21_token_36 q2852 ?_
  refine hr_iload hC dX21_token_39 rfl ?_
  obtain ⟨c7, h⟩ := hk_ok h
  obtain ⟨σ8, hσ8, h⟩ := hl_ok h
  refine hs_iast hC A23_14 c7 dX21_token_41 ?_
  rw [← hσ8]
  refine hr_aload_n hC dX21_token_42 rfl ?_
  refine hr_dup hC dX21_token_43 rfl ?_
  refine hr_gI hC F23_10 dX21_token_44 q2852 ?_
  refine hr_iconst (v := 1) hC dX21_token_47 rfl ?_
  refine hr_iadd hC dX21_token_48 ?_
  obtain ⟨σ9, hσ9, h⟩ := hl_ok h
  refine hr_pI hC F23_10 PX21_10 dX21_token_49 q2852 ?_
  rw [← hσ9]
  obtain rfl := Option.some.inj h
  exact hr_vret hC dX21_token_52
/-- HomeCompilerModel.figure(I)I -/
def fm_X21_figure  (x0 : Int32) (σ : hc_St) : Option Int32 := Option.bind (fm_X21_isDigit x0 σ) fun r1 => hl (α := Int32) ((if r1 = 0 then (if x0 < 97 then (if x0 < 65 then (-1) else (if 70 < x0 then (-1) else (((x0 - 65)) + 10))) else (if 102 < x0 then (if x0 < 65 then (-1) else (if 70 < x0 then (-1) else (((x0 - 65)) + 10))) else (((x0 - 97)) + 10))) else (x0 - 48))) fun v7 => some v7
set_option maxRecDepth 20000 in
set_option maxHeartbeats 4000000 in
theorem okX21_figure (l : Launch) (E : hc_E) (A : Nat → Prop) (d : Nat)  (hD : 2 ≤ d) {x0 : Int32} {σ : hc_St} {r : Int32} (h : fm_X21_figure  x0 σ = some r) (am : Nat → Nat → Nat) : hc_M l hc_V0 yX21_figure (ws_ yX21_figure cX21_figure 1 (some .int)) d E A [.int x0] am [] σ (.inl (some (.int r))) σ := by
  have hd1 : 1 ≤ d := by omega
  refine hc_enter2 (own := RX21) [(0, .int x0)] pl_X21 rfl hc_V0_st hc_G0_nd rfl (Nat.le_of_ble_eq_true rfl) (fun X hC hem => ?_)
  unfold fm_X21_figure at h
  refine hr_iload_n hC dX21_figure_0 rfl ?_
  obtain ⟨r1, e2, h⟩ := hx_bind h
  refine hs_callS0 hC [_] _ dX21_figure_1 q3138 q3139 q335 q3140 np_X21 rfl pd_X21_isDigit (Nat.le_of_ble_eq_true rfl) hd1 (okX21_isDigit l E A (d - 1)  (by omega)  e2 am) rfl ?_
  obtain ⟨v7, hv7, h⟩ := hl_ok h
  have J8 : ∀ w9 : Int32, (if r1 = 0 then (if x0 < 97 then (if x0 < 65 then (-1) else (if 70 < x0 then (-1) else (((x0 - 65)) + 10))) else (if 102 < x0 then (if x0 < 65 then (-1) else (if 70 < x0 then (-1) else (((x0 - 65)) + 10))) else (((x0 - 97)) + 10))) else (x0 - 48)) = w9 → hc_At hc_V0 E 1 X 59 [] [.int w9] σ am [] := by
    intro w9 hw9
    obtain rfl := hv7.trans hw9
    obtain rfl := Option.some.inj h
    exact hr_iret hC dX21_figure_59
  refine hr_if_eq (x := _) hC 14 dX21_figure_4 (by decide) (fun c10 => ?_) (fun c10 => ?_)
  · refine hr_iload_n hC dX21_figure_14 rfl ?_
    refine hr_bipush (v := 97) hC dX21_figure_15 rfl ?_
    refine hr_icmp_lt (x := _) hC 36 dX21_figure_17 (by decide) (fun c11 => ?_) (fun c11 => ?_)
    · refine hr_iload_n hC dX21_figure_36 rfl ?_
      refine hr_bipush (v := 65) hC dX21_figure_37 rfl ?_
      refine hr_icmp_lt (x := _) hC 58 dX21_figure_39 (by decide) (fun c12 => ?_) (fun c12 => ?_)
      · refine hr_iconst (v := (-1)) hC dX21_figure_58 rfl ?_
        exact hr_sub _ rfl (J8 _ (by first | (rw [if_pos c10, if_pos c11, if_pos c12]; done) | (simp only [if_pos c10, if_pos c11, if_pos c12]; done) | rfl))
      · refine hr_iload_n hC dX21_figure_42 rfl ?_
        refine hr_bipush (v := 70) hC dX21_figure_43 rfl ?_
        refine hr_icmp_gt (x := _) hC 58 dX21_figure_45 (by decide) (fun c13 => ?_) (fun c13 => ?_)
        · refine hr_iconst (v := (-1)) hC dX21_figure_58 rfl ?_
          exact hr_sub _ rfl (J8 _ (by first | (rw [if_pos c10, if_pos c11, if_neg c12, if_pos c13]; done) | (simp only [if_pos c10, if_pos c11, if_neg c12, if_pos c13]; done) | rfl))
        · refine hr_iload_n hC dX21_figure_48 rfl ?_
          refine hr_bipush (v := 65) hC dX21_figure_49 rfl ?_
          refine hr_isub hC dX21_figure_51 ?_
          refine hr_bipush (v := 10) hC dX21_figure_52 rfl ?_
          refine hr_iadd hC dX21_figure_54 ?_
          refine hr_goto hC 59 dX21_figure_55 (by decide) ?_
          exact hr_sub _ rfl (J8 _ (by first | (rw [if_pos c10, if_pos c11, if_neg c12, if_neg c13]; done) | (simp only [if_pos c10, if_pos c11, if_neg c12, if_neg c13]; done) | rfl))
    · refine hr_iload_n hC dX21_figure_20 rfl ?_
      refine hr_bipush (v := 102) hC dX21_figure_21 rfl ?_
      refine hr_icmp_gt (x := _) hC 36 dX21_figure_23 (by decide) (fun c14 => ?_) (fun c14 => ?_)
      · refine hr_iload_n hC dX21_figure_36 rfl ?_
        refine hr_bipush (v := 65) hC dX21_figure_37 rfl ?_
        refine hr_icmp_lt (x := _) hC 58 dX21_figure_39 (by decide) (fun c15 => ?_) (fun c15 => ?_)
        · refine hr_iconst (v := (-1)) hC dX21_figure_58 rfl ?_
          exact hr_sub _ rfl (J8 _ (by first | (rw [if_pos c10, if_neg c11, if_pos c14, if_pos c15]; done) | (simp only [if_pos c10, if_neg c11, if_pos c14, if_pos c15]; done) | rfl))
        · refine hr_iload_n hC dX21_figure_42 rfl ?_
          refine hr_bipush (v := 70) hC dX21_figure_43 rfl ?_
          refine hr_icmp_gt (x := _) hC 58 dX21_figure_45 (by decide) (fun c16 => ?_) (fun c16 => ?_)
          · refine hr_iconst (v := (-1)) hC dX21_figure_58 rfl ?_
            exact hr_sub _ rfl (J8 _ (by first | (rw [if_pos c10, if_neg c11, if_pos c14, if_neg c15, if_pos c16]; done) | (simp only [if_pos c10, if_neg c11, if_pos c14, if_neg c15, if_pos c16]; done) | rfl))
          · refine hr_iload_n hC dX21_figure_48 rfl ?_
            refine hr_bipush (v := 65) hC dX21_figure_49 rfl ?_
            refine hr_isub hC dX21_figure_51 ?_
            refine hr_bipush (v := 10) hC dX21_figure_52 rfl ?_
            refine hr_iadd hC dX21_figure_54 ?_
            refine hr_goto hC 59 dX21_figure_55 (by decide) ?_
            exact hr_sub _ rfl (J8 _ (by first | (rw [if_pos c10, if_neg c11, if_pos c14, if_neg c15, if_neg c16]; done) | (simp only [if_pos c10, if_neg c11, if_pos c14, if_neg c15, if_neg c16]; done) | rfl))
      · refine hr_iload_n hC dX21_figure_26 rfl ?_
        refine hr_bipush (v := 97) hC dX21_figure_27 rfl ?_
        refine hr_isub hC dX21_figure_29 ?_
        refine hr_bipush (v := 10) hC dX21_figure_30 rfl ?_
        refine hr_iadd hC dX21_figure_32 ?_
        refine hr_goto hC 59 dX21_figure_33 (by decide) ?_
        exact hr_sub _ rfl (J8 _ (by first | (rw [if_pos c10, if_neg c11, if_neg c14]; done) | (simp only [if_pos c10, if_neg c11, if_neg c14]; done) | rfl))
  · refine hr_iload_n hC dX21_figure_7 rfl ?_
    refine hr_bipush (v := 48) hC dX21_figure_8 rfl ?_
    refine hr_isub hC dX21_figure_10 ?_
    refine hr_goto hC 59 dX21_figure_11 (by decide) ?_
    exact hr_sub _ rfl (J8 _ (by first | (rw [if_neg c10]; done) | (simp only [if_neg c10]; done) | rfl))
def lp_X21_readNumber_46 (n : Nat) : Nat → Int32 → Int32 → Int32 → Int32 → Int64 → hc_St → Option (Int32 × Int64)
  | 0, _, _, _, _, _, _ => none
  | m + 1, y1, y2, y3, y4, y5, σ => if y2 = 0 then (Option.bind (fm_X21_byteAt ((y3 + y4)) σ) fun r22 => Option.bind (fm_X21_isDigit r22 σ) fun r26 => if r26 = 0 then (some (y4, y5)) else (Option.bind (α := Int64) (if 12 ≤ y4 then (some (y5)) else (hl (α := Int64) ((if y2 = 0 then 10 else 16)) fun v40 => Option.bind (fm_X21_byteAt ((y3 + y4)) σ) fun r41 => Option.bind (fm_X21_figure r41 σ) fun r45 => some ((((y5 * v40)) + ((r45.toInt64)))))) fun r34 => lp_X21_readNumber_46 n m y1 y2 y3 ((y4 + 1)) r34 σ)) else (Option.bind (fm_X21_byteAt ((y3 + y4)) σ) fun r52 => Option.bind (fm_X21_figure r52 σ) fun r56 => if r56 < 0 then (some (y4, y5)) else (Option.bind (α := Int64) (if 12 ≤ y4 then (some (y5)) else (hl (α := Int64) ((if y2 = 0 then 10 else 16)) fun v70 => Option.bind (fm_X21_byteAt ((y3 + y4)) σ) fun r71 => Option.bind (fm_X21_figure r71 σ) fun r75 => some ((((y5 * v70)) + ((r75.toInt64)))))) fun r64 => lp_X21_readNumber_46 n m y1 y2 y3 ((y4 + 1)) r64 σ))
/-- HomeCompilerModel.readNumber(I)Z -/
def fm_X21_readNumber (n : Nat) (x1 : Int32) (σ : hc_St) : Option (Int32 × hc_St) := Option.bind (fm_X21_byteAt x1 σ) fun r1 => Option.bind (α := Int32) (if r1 = 48 then (Option.bind (fm_X21_byteAt ((x1 + 1)) σ) fun r11 => if r11 = 120 then (some (1)) else (some (0))) else (some (0))) fun r7 => hl (α := Int32) ((if r7 = 0 then x1 else (x1 + 2))) fun v19 => Option.bind (lp_X21_readNumber_46 n n x1 r7 v19 0 0 σ) fun r82 => Option.bind (fm_X21_token x1 ((((v19 - x1)) + r82.1)) 3 ((r82.2.toInt32)) σ) fun r87 => hl (α := Int32) ((if r7 = 0 then (if 10 < r82.1 then 0 else (if 0 ≤ (lg_cmp r82.2 4294967296) then 0 else 1)) else (if r82.1 < 1 then 0 else (if 8 < r82.1 then 0 else 1)))) fun v93 => hk (hb01 v93) <| some (v93, r87)
set_option maxRecDepth 20000 in
set_option maxHeartbeats 4000000 in
theorem ll_X21_readNumber_46 {l : Launch} {E : hc_E} {A : Nat → Prop} {am : Nat → Nat → Nat} {d : Nat} {X : hc_X} (n : Nat) (hD : 3 ≤ d) (hem : X.2.2.2.2.2.2.2.2.2.1.exceptionTable.isEmpty = true) {oc : hc_Oc} {σe : hc_St} (hC : hc_C hc_V0 E cX21_readNumber 7 RX21 (some .boolean) d oc σe (l, A, am, []) X) : ∀ (m : Nat) (σ : hc_St) (y1 : Int32) (y2 : Int32) (y3 : Int32) (y4 : Int32) (y5 : Int64) (rl : Int32 × Int64) (am1 : Nat → Nat → Nat), lp_X21_readNumber_46 n m y1 y2 y3 y4 y5 σ = some rl → (hc_At hc_V0 E 7 X 130 [(0, .ref (E.2.1 23)), (1, .int y1), (2, .int y2), (3, .int y3), (4, .int rl.1), (5, .long rl.2)] [] σ am1 []) → hc_At hc_V0 E 7 X 46 [(0, .ref (E.2.1 23)), (1, .int y1), (2, .int y2), (3, .int y3), (4, .int y4), (5, .long y5)] [] σ am1 [] := by
  have hd1 : 1 ≤ d := by omega
  intro m
  induction m with
  | zero =>
    intro σ y1 y2 y3 y4 y5 rl am1 h
    cases h
  | succ m ih =>
    intro σ y1 y2 y3 y4 y5 rl am1 h JX
    rw [lp_X21_readNumber_46] at h
    refine hr_iload_n hC dX21_readNumber_46 rfl ?_
    refine hr_if_eq (x := _) hC 67 dX21_readNumber_47 (by decide) (fun c21 => ?_) (fun c21 => ?_)
    · rw [if_pos c21] at h
      refine hr_aload_n hC dX21_readNumber_67 rfl ?_
      refine hr_iload_n hC dX21_readNumber_68 rfl ?_
      refine hr_iload hC dX21_readNumber_69 rfl ?_
      refine hr_iadd hC dX21_readNumber_71 ?_
      obtain ⟨r22, e23, h⟩ := hx_bind h
      refine hs_callV0 hC 23 [_] _ dX21_readNumber_72 q3127 q3129 qs175 q335 q3130 np_X21 rfl OB_23 pd_X21_byteAt (Nat.le_of_ble_eq_true rfl) hd1 (okX21_byteAt l E A (d - 1)  (by omega)  e23 am1) rfl ?_
      obtain ⟨r26, e27, h⟩ := hx_bind h
      refine hs_callS0 hC [_] _ dX21_readNumber_75 q3138 q3139 q335 q3140 np_X21 rfl pd_X21_isDigit (Nat.le_of_ble_eq_true rfl) hd1 (okX21_isDigit l E A (d - 1)  (by omega)  e27 am1) rfl ?_
      refine hr_if_eq (x := _) hC 130 dX21_readNumber_78 (by decide) (fun c31 => ?_) (fun c31 => ?_)
      · rw [if_pos c31] at h
        obtain rfl := Option.some.inj h
        exact hr_sub _ rfl (JX)
      · rw [if_neg c31] at h
        refine hr_iload hC dX21_readNumber_81 rfl ?_
        refine hr_bipush (v := 12) hC dX21_readNumber_83 rfl ?_
        obtain ⟨r34, e35, h⟩ := hx_bind h
        have J36 : hc_At hc_V0 E 7 X 122 [(0, .ref (E.2.1 23)), (1, .int y1), (2, .int y2), (3, .int y3), (4, .int y4)] [.long r34] σ am1 [] := by
          refine hr_lstore hC dX21_readNumber_122 (by decide) ?_
          refine hr_iinc (v := y4 + 1) hC dX21_readNumber_124 rfl rfl (by decide) ?_
          refine hr_goto hC 46 dX21_readNumber_127 (by decide) ?_
          exact hr_sub _ rfl (ih _ _ _ _ _ _ _ am1 h JX)
        clear h
        have h := e35
        refine hr_icmp_ge (x := _) hC 120 dX21_readNumber_85 (by decide) (fun c33 => ?_) (fun c33 => ?_)
        · rw [if_pos c33] at h
          refine hr_lload hC dX21_readNumber_120 rfl ?_
          obtain rfl := Option.some.inj h
          exact hr_sub _ rfl (J36)
        · rw [if_neg c33] at h
          refine hr_lload hC dX21_readNumber_88 rfl ?_
          refine hr_iload_n hC dX21_readNumber_90 rfl ?_
          obtain ⟨v40, hv40, h⟩ := hl_ok h
          have J49 : ∀ w50 : Int64, (if y2 = 0 then 10 else 16) = w50 → hc_At hc_V0 E 7 X 103 [(0, .ref (E.2.1 23)), (1, .int y1), (2, .int y2), (3, .int y3), (4, .int y4)] [.long w50, .long y5] σ am1 [] := by
            intro w50 hw50
            obtain rfl := hv40.trans hw50
            refine hr_lmul hC dX21_readNumber_103 ?_
            refine hr_aload_n hC dX21_readNumber_104 rfl ?_
            refine hr_iload_n hC dX21_readNumber_105 rfl ?_
            refine hr_iload hC dX21_readNumber_106 rfl ?_
            refine hr_iadd hC dX21_readNumber_108 ?_
            obtain ⟨r41, e42, h⟩ := hx_bind h
            refine hs_callV0 hC 23 [_] _ dX21_readNumber_109 q3127 q3129 qs175 q335 q3130 np_X21 rfl OB_23 pd_X21_byteAt (Nat.le_of_ble_eq_true rfl) hd1 (okX21_byteAt l E A (d - 1)  (by omega)  e42 am1) rfl ?_
            obtain ⟨r45, e46, h⟩ := hx_bind h
            refine hs_callS0 hC [_] _ dX21_readNumber_112 q3159 q3160 q335 q3161 np_X21 rfl pd_X21_figure (Nat.le_of_ble_eq_true rfl) hd1 (okX21_figure l E A (d - 1)  (by omega)  e46 am1) rfl ?_
            refine hr_i2l hC dX21_readNumber_115 ?_
            refine hr_ladd hC dX21_readNumber_116 ?_
            refine hr_goto hC 122 dX21_readNumber_117 (by decide) ?_
            obtain rfl := Option.some.inj h
            exact hr_sub _ rfl (J36)
          refine hr_if_eq (x := _) hC 100 dX21_readNumber_91 (by decide) (fun c51 => ?_) (fun c51 => ?_)
          · refine hr_ldc2 hC dX21_readNumber_100 q3163 ?_
            exact hr_sub _ rfl (J49 _ (by first | (rw [if_pos c51]; done) | (simp only [if_pos c51]; done) | rfl))
          · refine hr_ldc2 hC dX21_readNumber_94 q3162 ?_
            refine hr_goto hC 103 dX21_readNumber_97 (by decide) ?_
            exact hr_sub _ rfl (J49 _ (by first | (rw [if_neg c51]; done) | (simp only [if_neg c51]; done) | rfl))
    · rw [if_neg c21] at h
      refine hr_aload_n hC dX21_readNumber_50 rfl ?_
      refine hr_iload_n hC dX21_readNumber_51 rfl ?_
      refine hr_iload hC dX21_readNumber_52 rfl ?_
      refine hr_iadd hC dX21_readNumber_54 ?_
      obtain ⟨r52, e53, h⟩ := hx_bind h
      refine hs_callV0 hC 23 [_] _ dX21_readNumber_55 q3127 q3129 qs175 q335 q3130 np_X21 rfl OB_23 pd_X21_byteAt (Nat.le_of_ble_eq_true rfl) hd1 (okX21_byteAt l E A (d - 1)  (by omega)  e53 am1) rfl ?_
      obtain ⟨r56, e57, h⟩ := hx_bind h
      refine hs_callS0 hC [_] _ dX21_readNumber_58 q3159 q3160 q335 q3161 np_X21 rfl pd_X21_figure (Nat.le_of_ble_eq_true rfl) hd1 (okX21_figure l E A (d - 1)  (by omega)  e57 am1) rfl ?_
      refine hr_if_lt (x := _) hC 130 dX21_readNumber_61 (by decide) (fun c61 => ?_) (fun c61 => ?_)
      · rw [if_pos c61] at h
        obtain rfl := Option.some.inj h
        exact hr_sub _ rfl (JX)
      · rw [if_neg c61] at h
        refine hr_goto hC 81 dX21_readNumber_64 (by decide) ?_
        refine hr_iload hC dX21_readNumber_81 rfl ?_
        refine hr_bipush (v := 12) hC dX21_readNumber_83 rfl ?_
        obtain ⟨r64, e65, h⟩ := hx_bind h
        have J66 : hc_At hc_V0 E 7 X 122 [(0, .ref (E.2.1 23)), (1, .int y1), (2, .int y2), (3, .int y3), (4, .int y4)] [.long r64] σ am1 [] := by
          refine hr_lstore hC dX21_readNumber_122 (by decide) ?_
          refine hr_iinc (v := y4 + 1) hC dX21_readNumber_124 rfl rfl (by decide) ?_
          refine hr_goto hC 46 dX21_readNumber_127 (by decide) ?_
          exact hr_sub _ rfl (ih _ _ _ _ _ _ _ am1 h JX)
        clear h
        have h := e65
        refine hr_icmp_ge (x := _) hC 120 dX21_readNumber_85 (by decide) (fun c63 => ?_) (fun c63 => ?_)
        · rw [if_pos c63] at h
          refine hr_lload hC dX21_readNumber_120 rfl ?_
          obtain rfl := Option.some.inj h
          exact hr_sub _ rfl (J66)
        · rw [if_neg c63] at h
          refine hr_lload hC dX21_readNumber_88 rfl ?_
          refine hr_iload_n hC dX21_readNumber_90 rfl ?_
          obtain ⟨v70, hv70, h⟩ := hl_ok h
          have J79 : ∀ w80 : Int64, (if y2 = 0 then 10 else 16) = w80 → hc_At hc_V0 E 7 X 103 [(0, .ref (E.2.1 23)), (1, .int y1), (2, .int y2), (3, .int y3), (4, .int y4)] [.long w80, .long y5] σ am1 [] := by
            intro w80 hw80
            obtain rfl := hv70.trans hw80
            refine hr_lmul hC dX21_readNumber_103 ?_
            refine hr_aload_n hC dX21_readNumber_104 rfl ?_
            refine hr_iload_n hC dX21_readNumber_105 rfl ?_
            refine hr_iload hC dX21_readNumber_106 rfl ?_
            refine hr_iadd hC dX21_readNumber_108 ?_
            obtain ⟨r71, e72, h⟩ := hx_bind h
            refine hs_callV0 hC 23 [_] _ dX21_readNumber_109 q3127 q3129 qs175 q335 q3130 np_X21 rfl OB_23 pd_X21_byteAt (Nat.le_of_ble_eq_true rfl) hd1 (okX21_byteAt l E A (d - 1)  (by omega)  e72 am1) rfl ?_
            obtain ⟨r75, e76, h⟩ := hx_bind h
            refine hs_callS0 hC [_] _ dX21_readNumber_112 q3159 q3160 q335 q3161 np_X21 rfl pd_X21_figure (Nat.le_of_ble_eq_true rfl) hd1 (okX21_figure l E A (d - 1)  (by omega)  e76 am1) rfl ?_
            refine hr_i2l hC dX21_readNumber_115 ?_
            refine hr_ladd hC dX21_readNumber_116 ?_
            refine hr_goto hC 122 dX21_readNumber_117 (by decide) ?_
            obtain rfl := Option.some.inj h
            exact hr_sub _ rfl (J66)
          refine hr_if_eq (x := _) hC 100 dX21_readNumber_91 (by decide) (fun c81 => ?_) (fun c81 => ?_)
          · refine hr_ldc2 hC dX21_readNumber_100 q3163 ?_
            exact hr_sub _ rfl (J79 _ (by first | (rw [if_pos c81]; done) | (simp only [if_pos c81]; done) | rfl))
          · refine hr_ldc2 hC dX21_readNumber_94 q3162 ?_
            refine hr_goto hC 103 dX21_readNumber_97 (by decide) ?_
            exact hr_sub _ rfl (J79 _ (by first | (rw [if_neg c81]; done) | (simp only [if_neg c81]; done) | rfl))
set_option maxRecDepth 20000 in
set_option maxHeartbeats 4000000 in
theorem okX21_readNumber (l : Launch) (E : hc_E) (A : Nat → Prop) (d : Nat) (n : Nat) (hD : 3 ≤ d) {x1 : Int32} {σ : hc_St} {r : (Int32 × hc_St)} (h : fm_X21_readNumber n x1 σ = some r) (am : Nat → Nat → Nat) : hc_M l hc_V0 yX21_readNumber (ws_ yX21_readNumber cX21_readNumber 7 (some .boolean)) d E A [.ref (E.2.1 23), .int x1] am [] σ (.inl (some (.int r.1))) r.2 := by
  have hd1 : 1 ≤ d := by omega
  refine hc_enter2 (own := RX21) [(0, .ref (E.2.1 23)), (1, .int x1)] pl_X21 rfl hc_V0_st hc_G0_nd rfl (Nat.le_of_ble_eq_true rfl) (fun X hC hem => ?_)
  unfold fm_X21_readNumber at h
  refine hr_aload_n hC dX21_readNumber_0 rfl ?_
  refine hr_iload_n hC dX21_readNumber_1 rfl ?_
  obtain ⟨r1, e2, h⟩ := hx_bind h
  refine hs_callV0 hC 23 [_] _ dX21_readNumber_2 q3127 q3129 qs175 q335 q3130 np_X21 rfl OB_23 pd_X21_byteAt (Nat.le_of_ble_eq_true rfl) hd1 (okX21_byteAt l E A (d - 1)  (by omega)  e2 am) rfl ?_
  refine hr_bipush (v := 48) hC dX21_readNumber_5 rfl ?_
  obtain ⟨r7, e8, h⟩ := hx_bind h
  have J9 : hc_At hc_V0 E 7 X 27 [(0, .ref (E.2.1 23)), (1, .int x1)] [.int r7] σ am [] := by
    refine hr_istore_n hC dX21_readNumber_27 (by decide) ?_
    refine hr_iload_n hC dX21_readNumber_28 rfl ?_
    obtain ⟨v19, hv19, h⟩ := hl_ok h
    have J102 : ∀ w103 : Int32, (if r7 = 0 then x1 else (x1 + 2)) = w103 → hc_At hc_V0 E 7 X 39 [(0, .ref (E.2.1 23)), (1, .int x1), (2, .int r7)] [.int w103] σ am [] := by
      intro w103 hw103
      obtain rfl := hv19.trans hw103
      refine hr_istore_n hC dX21_readNumber_39 (by decide) ?_
      refine hr_iconst (v := 0) hC dX21_readNumber_40 rfl ?_
      refine hr_istore hC dX21_readNumber_41 (by decide) ?_
      refine hr_lconst (v := 0) hC dX21_readNumber_43 rfl ?_
      refine hr_lstore hC dX21_readNumber_44 (by decide) ?_
      obtain ⟨r82, e83, h⟩ := hx_bind h
      refine hr_sub _ rfl (ll_X21_readNumber_46 n hD hem hC n _ _ _ _ _ _ _ am e83 ?_)
      refine hr_aload_n hC dX21_readNumber_130 rfl ?_
      refine hr_iload_n hC dX21_readNumber_131 rfl ?_
      refine hr_iload_n hC dX21_readNumber_132 rfl ?_
      refine hr_iload_n hC dX21_readNumber_133 rfl ?_
      refine hr_isub hC dX21_readNumber_134 ?_
      refine hr_iload hC dX21_readNumber_135 rfl ?_
      refine hr_iadd hC dX21_readNumber_137 ?_
      refine hr_iconst (v := 3) hC dX21_readNumber_138 rfl ?_
      refine hr_lload hC dX21_readNumber_139 rfl ?_
      refine hr_l2i hC dX21_readNumber_141 ?_
      obtain ⟨r87, e88, h⟩ := hx_bind h
      refine hs_callV0 hC 23 [_, _, _, _] _ dX21_readNumber_142 q3151 q3153 qs179 q335 q3154 np_X21 rfl OB_23 pd_X21_token (Nat.le_of_ble_eq_true rfl) hd1 (okX21_token l E A (d - 1)  (by omega)  e88 am) rfl ?_
      refine hr_iload_n hC dX21_readNumber_145 rfl ?_
      obtain ⟨v93, hv93, h⟩ := hl_ok h
      have J95 : ∀ w96 : Int32, (if r7 = 0 then (if 10 < r82.1 then 0 else (if 0 ≤ (lg_cmp r82.2 4294967296) then 0 else 1)) else (if r82.1 < 1 then 0 else (if 8 < r82.1 then 0 else 1))) = w96 → hc_At hc_V0 E 7 X 191 [] [.int w96] r87 am [] := by
        intro w96 hw96
        obtain rfl := hv93.trans hw96
        obtain ⟨c94, h⟩ := hk_ok h
        obtain rfl := Option.some.inj h
        exact hr_zret hC (hb01_n c94) dX21_readNumber_191
      refine hr_if_eq (x := _) hC 170 dX21_readNumber_146 (by decide) (fun c97 => ?_) (fun c97 => ?_)
      · refine hr_iload hC dX21_readNumber_170 rfl ?_
        refine hr_bipush (v := 10) hC dX21_readNumber_172 rfl ?_
        refine hr_icmp_gt (x := _) hC 190 dX21_readNumber_174 (by decide) (fun c98 => ?_) (fun c98 => ?_)
        · refine hr_iconst (v := 0) hC dX21_readNumber_190 rfl ?_
          exact hr_sub _ rfl (J95 _ (by first | (rw [if_pos c97, if_pos c98]; done) | (simp only [if_pos c97, if_pos c98]; done) | rfl))
        · refine hr_lload hC dX21_readNumber_177 rfl ?_
          refine hr_ldc2 hC dX21_readNumber_179 q3164 ?_
          refine hr_lcmp hC dX21_readNumber_182 ?_
          refine hr_if_ge (x := _) hC 190 dX21_readNumber_183 (by decide) (fun c99 => ?_) (fun c99 => ?_)
          · refine hr_iconst (v := 0) hC dX21_readNumber_190 rfl ?_
            exact hr_sub _ rfl (J95 _ (by first | (rw [if_pos c97, if_neg c98, if_pos c99]; done) | (simp only [if_pos c97, if_neg c98, if_pos c99]; done) | rfl))
          · refine hr_iconst (v := 1) hC dX21_readNumber_186 rfl ?_
            refine hr_goto hC 191 dX21_readNumber_187 (by decide) ?_
            exact hr_sub _ rfl (J95 _ (by first | (rw [if_pos c97, if_neg c98, if_neg c99]; done) | (simp only [if_pos c97, if_neg c98, if_neg c99]; done) | rfl))
      · refine hr_iload hC dX21_readNumber_149 rfl ?_
        refine hr_iconst (v := 1) hC dX21_readNumber_151 rfl ?_
        refine hr_icmp_lt (x := _) hC 166 dX21_readNumber_152 (by decide) (fun c100 => ?_) (fun c100 => ?_)
        · refine hr_iconst (v := 0) hC dX21_readNumber_166 rfl ?_
          refine hr_goto hC 191 dX21_readNumber_167 (by decide) ?_
          exact hr_sub _ rfl (J95 _ (by first | (rw [if_neg c97, if_pos c100]; done) | (simp only [if_neg c97, if_pos c100]; done) | rfl))
        · refine hr_iload hC dX21_readNumber_155 rfl ?_
          refine hr_bipush (v := 8) hC dX21_readNumber_157 rfl ?_
          refine hr_icmp_gt (x := _) hC 166 dX21_readNumber_159 (by decide) (fun c101 => ?_) (fun c101 => ?_)
          · refine hr_iconst (v := 0) hC dX21_readNumber_166 rfl ?_
            refine hr_goto hC 191 dX21_readNumber_167 (by decide) ?_
            exact hr_sub _ rfl (J95 _ (by first | (rw [if_neg c97, if_neg c100, if_pos c101]; done) | (simp only [if_neg c97, if_neg c100, if_pos c101]; done) | rfl))
          · refine hr_iconst (v := 1) hC dX21_readNumber_162 rfl ?_
            refine hr_goto hC 191 dX21_readNumber_163 (by decide) ?_
            exact hr_sub _ rfl (J95 _ (by first | (rw [if_neg c97, if_neg c100, if_neg c101]; done) | (simp only [if_neg c97, if_neg c100, if_neg c101]; done) | rfl))
    refine hr_if_eq (x := _) hC 38 dX21_readNumber_29 (by decide) (fun c104 => ?_) (fun c104 => ?_)
    · refine hr_iload_n hC dX21_readNumber_38 rfl ?_
      exact hr_sub _ rfl (J102 _ (by first | (rw [if_pos c104]; done) | (simp only [if_pos c104]; done) | rfl))
    · refine hr_iload_n hC dX21_readNumber_32 rfl ?_
      refine hr_iconst (v := 2) hC dX21_readNumber_33 rfl ?_
      refine hr_iadd hC dX21_readNumber_34 ?_
      refine hr_goto hC 39 dX21_readNumber_35 (by decide) ?_
      exact hr_sub _ rfl (J102 _ (by first | (rw [if_neg c104]; done) | (simp only [if_neg c104]; done) | rfl))
  clear h
  have h := e8
  refine hr_icmp_ne (x := _) hC 26 dX21_readNumber_7 (by decide) (fun c6 => ?_) (fun c6 => ?_)
  · rw [if_neg c6] at h
    refine hr_iconst (v := 0) hC dX21_readNumber_26 rfl ?_
    obtain rfl := Option.some.inj h
    exact hr_sub _ rfl (J9)
  · rw [if_pos c6] at h
    refine hr_aload_n hC dX21_readNumber_10 rfl ?_
    refine hr_iload_n hC dX21_readNumber_11 rfl ?_
    refine hr_iconst (v := 1) hC dX21_readNumber_12 rfl ?_
    refine hr_iadd hC dX21_readNumber_13 ?_
    obtain ⟨r11, e12, h⟩ := hx_bind h
    refine hs_callV0 hC 23 [_] _ dX21_readNumber_14 q3127 q3129 qs175 q335 q3130 np_X21 rfl OB_23 pd_X21_byteAt (Nat.le_of_ble_eq_true rfl) hd1 (okX21_byteAt l E A (d - 1)  (by omega)  e12 am) rfl ?_
    refine hr_bipush (v := 120) hC dX21_readNumber_17 rfl ?_
    refine hr_icmp_ne (x := _) hC 26 dX21_readNumber_19 (by decide) (fun c16 => ?_) (fun c16 => ?_)
    · rw [if_neg c16] at h
      refine hr_iconst (v := 0) hC dX21_readNumber_26 rfl ?_
      obtain rfl := Option.some.inj h
      exact hr_sub _ rfl (J9)
    · rw [if_pos c16] at h
      refine hr_iconst (v := 1) hC dX21_readNumber_22 rfl ?_
      refine hr_goto hC 27 dX21_readNumber_23 (by decide) ?_
      obtain rfl := Option.some.inj h
      exact hr_sub _ rfl (J9)
/-- HomeCompilerModel.character(II)I -/
def fm_X21_character  (x1 : Int32) (x2 : Int32) (σ : hc_St) : Option Int32 := Option.bind (fm_X21_byteAt x1 σ) fun r1 => if r1 = 92 then (Option.bind (fm_X21_byteAt ((x1 + 1)) σ) fun r15 => hl (α := Int32) ((if r15 = 110 then 10 else (if r15 = 48 then 0 else (if r15 = x2 then r15 else (if r15 = 92 then r15 else (-1)))))) fun v21 => hl (α := Int32) ((if 0 ≤ v21 then (v21 + 1000) else (-1))) fun v24 => some v24) else (hl (α := Int32) ((if r1 < 32 then (-1) else (if 126 < r1 then (-1) else (if r1 = x2 then (-1) else r1)))) fun v9 => some v9)
set_option maxRecDepth 20000 in
set_option maxHeartbeats 4000000 in
theorem okX21_character (l : Launch) (E : hc_E) (A : Nat → Prop) (d : Nat)  (hD : 2 ≤ d) {x1 : Int32} {x2 : Int32} {σ : hc_St} {r : Int32} (h : fm_X21_character  x1 x2 σ = some r) (am : Nat → Nat → Nat) : hc_M l hc_V0 yX21_character (ws_ yX21_character cX21_character 6 (some .int)) d E A [.ref (E.2.1 23), .int x1, .int x2] am [] σ (.inl (some (.int r))) σ := by
  have hd1 : 1 ≤ d := by omega
  refine hc_enter2 (own := RX21) [(0, .ref (E.2.1 23)), (1, .int x1), (2, .int x2)] pl_X21 rfl hc_V0_st hc_G0_nd rfl (Nat.le_of_ble_eq_true rfl) (fun X hC hem => ?_)
  unfold fm_X21_character at h
  refine hr_aload_n hC dX21_character_0 rfl ?_
  refine hr_iload_n hC dX21_character_1 rfl ?_
  obtain ⟨r1, e2, h⟩ := hx_bind h
  refine hs_callV0 hC 23 [_] _ dX21_character_2 q3127 q3129 qs175 q335 q3130 np_X21 rfl OB_23 pd_X21_byteAt (Nat.le_of_ble_eq_true rfl) hd1 (okX21_byteAt l E A (d - 1)  (by omega)  e2 am) rfl ?_
  refine hr_istore_n hC dX21_character_5 (by decide) ?_
  refine hr_iload_n hC dX21_character_6 rfl ?_
  refine hr_bipush (v := 92) hC dX21_character_7 rfl ?_
  refine hr_icmp_ne (x := _) hC 81 dX21_character_9 (by decide) (fun c6 => ?_) (fun c6 => ?_)
  · rw [if_neg c6] at h
    refine hr_iload_n hC dX21_character_81 rfl ?_
    refine hr_bipush (v := 32) hC dX21_character_82 rfl ?_
    obtain ⟨v9, hv9, h⟩ := hl_ok h
    have J10 : ∀ w11 : Int32, (if r1 < 32 then (-1) else (if 126 < r1 then (-1) else (if r1 = x2 then (-1) else r1))) = w11 → hc_At hc_V0 E 6 X 103 [] [.int w11] σ am [] := by
      intro w11 hw11
      obtain rfl := hv9.trans hw11
      obtain rfl := Option.some.inj h
      exact hr_iret hC dX21_character_103
    refine hr_icmp_lt (x := _) hC 98 dX21_character_84 (by decide) (fun c12 => ?_) (fun c12 => ?_)
    · refine hr_iconst (v := (-1)) hC dX21_character_98 rfl ?_
      refine hr_goto hC 103 dX21_character_99 (by decide) ?_
      exact hr_sub _ rfl (J10 _ (by first | (rw [if_pos c12]; done) | (simp only [if_pos c12]; done) | rfl))
    · refine hr_iload_n hC dX21_character_87 rfl ?_
      refine hr_bipush (v := 126) hC dX21_character_88 rfl ?_
      refine hr_icmp_gt (x := _) hC 98 dX21_character_90 (by decide) (fun c13 => ?_) (fun c13 => ?_)
      · refine hr_iconst (v := (-1)) hC dX21_character_98 rfl ?_
        refine hr_goto hC 103 dX21_character_99 (by decide) ?_
        exact hr_sub _ rfl (J10 _ (by first | (rw [if_neg c12, if_pos c13]; done) | (simp only [if_neg c12, if_pos c13]; done) | rfl))
      · refine hr_iload_n hC dX21_character_93 rfl ?_
        refine hr_iload_n hC dX21_character_94 rfl ?_
        refine hr_icmp_ne (x := _) hC 102 dX21_character_95 (by decide) (fun c14 => ?_) (fun c14 => ?_)
        · refine hr_iload_n hC dX21_character_102 rfl ?_
          exact hr_sub _ rfl (J10 _ (by first | (rw [if_neg c12, if_neg c13, if_neg c14]; done) | (simp only [if_neg c12, if_neg c13, if_neg c14]; done) | rfl))
        · refine hr_iconst (v := (-1)) hC dX21_character_98 rfl ?_
          refine hr_goto hC 103 dX21_character_99 (by decide) ?_
          exact hr_sub _ rfl (J10 _ (by first | (rw [if_neg c12, if_neg c13, if_pos c14]; done) | (simp only [if_neg c12, if_neg c13, if_pos c14]; done) | rfl))
  · rw [if_pos c6] at h
    refine hr_aload_n hC dX21_character_12 rfl ?_
    refine hr_iload_n hC dX21_character_13 rfl ?_
    refine hr_iconst (v := 1) hC dX21_character_14 rfl ?_
    refine hr_iadd hC dX21_character_15 ?_
    obtain ⟨r15, e16, h⟩ := hx_bind h
    refine hs_callV0 hC 23 [_] _ dX21_character_16 q3127 q3129 qs175 q335 q3130 np_X21 rfl OB_23 pd_X21_byteAt (Nat.le_of_ble_eq_true rfl) hd1 (okX21_byteAt l E A (d - 1)  (by omega)  e16 am) rfl ?_
    refine hr_istore hC dX21_character_19 (by decide) ?_
    refine hr_iload hC dX21_character_21 rfl ?_
    refine hr_bipush (v := 110) hC dX21_character_23 rfl ?_
    obtain ⟨v21, hv21, h⟩ := hl_ok h
    have J28 : ∀ w29 : Int32, (if r15 = 110 then 10 else (if r15 = 48 then 0 else (if r15 = x2 then r15 else (if r15 = 92 then r15 else (-1))))) = w29 → hc_At hc_V0 E 6 X 63 [] [.int w29] σ am [] := by
      intro w29 hw29
      obtain rfl := hv21.trans hw29
      refine hr_istore hC dX21_character_63 (by decide) ?_
      refine hr_iload hC dX21_character_65 rfl ?_
      obtain ⟨v24, hv24, h⟩ := hl_ok h
      have J25 : ∀ w26 : Int32, (if 0 ≤ v21 then (v21 + 1000) else (-1)) = w26 → hc_At hc_V0 E 6 X 80 [] [.int w26] σ am [] := by
        intro w26 hw26
        obtain rfl := hv24.trans hw26
        obtain rfl := Option.some.inj h
        exact hr_iret hC dX21_character_80
      refine hr_if_ge (x := _) hC 74 dX21_character_67 (by decide) (fun c27 => ?_) (fun c27 => ?_)
      · refine hr_iload hC dX21_character_74 rfl ?_
        refine hr_sipush (v := 1000) hC dX21_character_76 rfl ?_
        refine hr_iadd hC dX21_character_79 ?_
        exact hr_sub _ rfl (J25 _ (by first | (rw [if_pos c27]; done) | (simp only [if_pos c27]; done) | rfl))
      · refine hr_iconst (v := (-1)) hC dX21_character_70 rfl ?_
        refine hr_goto hC 80 dX21_character_71 (by decide) ?_
        exact hr_sub _ rfl (J25 _ (by first | (rw [if_neg c27]; done) | (simp only [if_neg c27]; done) | rfl))
    refine hr_icmp_ne (x := _) hC 33 dX21_character_25 (by decide) (fun c30 => ?_) (fun c30 => ?_)
    · refine hr_iload hC dX21_character_33 rfl ?_
      refine hr_bipush (v := 48) hC dX21_character_35 rfl ?_
      refine hr_icmp_ne (x := _) hC 44 dX21_character_37 (by decide) (fun c31 => ?_) (fun c31 => ?_)
      · refine hr_iload hC dX21_character_44 rfl ?_
        refine hr_iload_n hC dX21_character_46 rfl ?_
        refine hr_icmp_eq (x := _) hC 57 dX21_character_47 (by decide) (fun c32 => ?_) (fun c32 => ?_)
        · refine hr_iload hC dX21_character_57 rfl ?_
          refine hr_goto hC 63 dX21_character_59 (by decide) ?_
          exact hr_sub _ rfl (J28 _ (by first | (rw [if_neg c30, if_neg c31, if_pos c32]; done) | (simp only [if_neg c30, if_neg c31, if_pos c32]; done) | rfl))
        · refine hr_iload hC dX21_character_50 rfl ?_
          refine hr_bipush (v := 92) hC dX21_character_52 rfl ?_
          refine hr_icmp_ne (x := _) hC 62 dX21_character_54 (by decide) (fun c33 => ?_) (fun c33 => ?_)
          · refine hr_iconst (v := (-1)) hC dX21_character_62 rfl ?_
            exact hr_sub _ rfl (J28 _ (by first | (rw [if_neg c30, if_neg c31, if_neg c32, if_neg c33]; done) | (simp only [if_neg c30, if_neg c31, if_neg c32, if_neg c33]; done) | rfl))
          · refine hr_iload hC dX21_character_57 rfl ?_
            refine hr_goto hC 63 dX21_character_59 (by decide) ?_
            exact hr_sub _ rfl (J28 _ (by first | (rw [if_neg c30, if_neg c31, if_neg c32, if_pos c33]; done) | (simp only [if_neg c30, if_neg c31, if_neg c32, if_pos c33]; done) | rfl))
      · refine hr_iconst (v := 0) hC dX21_character_40 rfl ?_
        refine hr_goto hC 63 dX21_character_41 (by decide) ?_
        exact hr_sub _ rfl (J28 _ (by first | (rw [if_neg c30, if_pos c31]; done) | (simp only [if_neg c30, if_pos c31]; done) | rfl))
    · refine hr_bipush (v := 10) hC dX21_character_28 rfl ?_
      refine hr_goto hC 63 dX21_character_30 (by decide) ?_
      exact hr_sub _ rfl (J28 _ (by first | (rw [if_pos c30]; done) | (simp only [if_pos c30]; done) | rfl))
def lp_X21_readString_15 (n : Nat) : Nat → Int32 → Int32 → Int32 → Int32 → hc_St → Option (Int32 × Int32)
  | 0, _, _, _, _, _ => none
  | m + 1, y1, y2, y3, y4, σ => if y4 < 0 then (some (y2, y3)) else (hl (α := Int32) ((if 1000 ≤ y4 then 2 else 1)) fun v9 => Option.bind (fm_X21_character ((y2 + v9)) 34 σ) fun r10 => lp_X21_readString_15 n m y1 ((y2 + v9)) ((y3 + 1)) r10 σ)
/-- HomeCompilerModel.readString(I)Z -/
def fm_X21_readString (n : Nat) (x1 : Int32) (σ : hc_St) : Option (Int32 × hc_St) := Option.bind (fm_X21_character ((x1 + 1)) 34 σ) fun r1 => Option.bind (lp_X21_readString_15 n n x1 ((x1 + 1)) 0 r1 σ) fun r17 => Option.bind (fm_X21_token x1 ((((r17.1 + 1)) - x1)) 4 r17.2 σ) fun r22 => Option.bind (fm_X21_byteAt r17.1 r22) fun r26 => hl (α := Int32) ((if r26 = 34 then (if 200 < r17.2 then 0 else 1) else 0)) fun v32 => hk (hb01 v32) <| some (v32, r22)
set_option maxRecDepth 20000 in
set_option maxHeartbeats 4000000 in
theorem ll_X21_readString_15 {l : Launch} {E : hc_E} {A : Nat → Prop} {am : Nat → Nat → Nat} {d : Nat} {X : hc_X} (n : Nat) (hD : 3 ≤ d) (hem : X.2.2.2.2.2.2.2.2.2.1.exceptionTable.isEmpty = true) {oc : hc_Oc} {σe : hc_St} (hC : hc_C hc_V0 E cX21_readString 5 RX21 (some .boolean) d oc σe (l, A, am, []) X) : ∀ (m : Nat) (σ : hc_St) (y1 : Int32) (y2 : Int32) (y3 : Int32) (y4 : Int32) (rl : Int32 × Int32) (am1 : Nat → Nat → Nat), lp_X21_readString_15 n m y1 y2 y3 y4 σ = some rl → (hc_At hc_V0 E 5 X 51 [(0, .ref (E.2.1 23)), (1, .int y1), (2, .int rl.1), (3, .int rl.2)] [] σ am1 []) → hc_At hc_V0 E 5 X 15 [(0, .ref (E.2.1 23)), (1, .int y1), (2, .int y2), (3, .int y3), (4, .int y4)] [] σ am1 [] := by
  have hd1 : 1 ≤ d := by omega
  intro m
  induction m with
  | zero =>
    intro σ y1 y2 y3 y4 rl am1 h
    cases h
  | succ m ih =>
    intro σ y1 y2 y3 y4 rl am1 h JX
    rw [lp_X21_readString_15] at h
    refine hr_iload hC dX21_readString_15 rfl ?_
    refine hr_if_lt (x := _) hC 51 dX21_readString_17 (by decide) (fun c6 => ?_) (fun c6 => ?_)
    · rw [if_pos c6] at h
      obtain rfl := Option.some.inj h
      exact hr_sub _ rfl (JX)
    · rw [if_neg c6] at h
      refine hr_iload_n hC dX21_readString_20 rfl ?_
      refine hr_iload hC dX21_readString_21 rfl ?_
      refine hr_sipush (v := 1000) hC dX21_readString_23 rfl ?_
      obtain ⟨v9, hv9, h⟩ := hl_ok h
      have J14 : ∀ w15 : Int32, (if 1000 ≤ y4 then 2 else 1) = w15 → hc_At hc_V0 E 5 X 34 [(0, .ref (E.2.1 23)), (1, .int y1), (3, .int y3)] [.int w15, .int y2] σ am1 [] := by
        intro w15 hw15
        obtain rfl := hv9.trans hw15
        refine hr_iadd hC dX21_readString_34 ?_
        refine hr_istore_n hC dX21_readString_35 (by decide) ?_
        refine hr_iinc (v := y3 + 1) hC dX21_readString_36 rfl rfl (by decide) ?_
        refine hr_aload_n hC dX21_readString_39 rfl ?_
        refine hr_iload_n hC dX21_readString_40 rfl ?_
        refine hr_bipush (v := 34) hC dX21_readString_41 rfl ?_
        obtain ⟨r10, e11, h⟩ := hx_bind h
        refine hs_callV0 hC 23 [_, _] _ dX21_readString_43 q3165 q3167 qs181 q335 q3168 np_X21 rfl OB_23 pd_X21_character (Nat.le_of_ble_eq_true rfl) hd1 (okX21_character l E A (d - 1)  (by omega)  e11 am1) rfl ?_
        refine hr_istore hC dX21_readString_46 (by decide) ?_
        refine hr_goto hC 15 dX21_readString_48 (by decide) ?_
        exact hr_sub _ rfl (ih _ _ _ _ _ _ am1 h JX)
      refine hr_icmp_ge (x := _) hC 33 dX21_readString_26 (by decide) (fun c16 => ?_) (fun c16 => ?_)
      · refine hr_iconst (v := 2) hC dX21_readString_33 rfl ?_
        exact hr_sub _ rfl (J14 _ (by first | (rw [if_pos c16]; done) | (simp only [if_pos c16]; done) | rfl))
      · refine hr_iconst (v := 1) hC dX21_readString_29 rfl ?_
        refine hr_goto hC 34 dX21_readString_30 (by decide) ?_
        exact hr_sub _ rfl (J14 _ (by first | (rw [if_neg c16]; done) | (simp only [if_neg c16]; done) | rfl))
set_option maxRecDepth 20000 in
set_option maxHeartbeats 4000000 in
theorem okX21_readString (l : Launch) (E : hc_E) (A : Nat → Prop) (d : Nat) (n : Nat) (hD : 3 ≤ d) {x1 : Int32} {σ : hc_St} {r : (Int32 × hc_St)} (h : fm_X21_readString n x1 σ = some r) (am : Nat → Nat → Nat) : hc_M l hc_V0 yX21_readString (ws_ yX21_readString cX21_readString 5 (some .boolean)) d E A [.ref (E.2.1 23), .int x1] am [] σ (.inl (some (.int r.1))) r.2 := by
  have hd1 : 1 ≤ d := by omega
  refine hc_enter2 (own := RX21) [(0, .ref (E.2.1 23)), (1, .int x1)] pl_X21 rfl hc_V0_st hc_G0_nd rfl (Nat.le_of_ble_eq_true rfl) (fun X hC hem => ?_)
  unfold fm_X21_readString at h
  refine hr_iload_n hC dX21_readString_0 rfl ?_
  refine hr_iconst (v := 1) hC dX21_readString_1 rfl ?_
  refine hr_iadd hC dX21_readString_2 ?_
  refine hr_istore_n hC dX21_readString_3 (by decide) ?_
  refine hr_iconst (v := 0) hC dX21_readString_4 rfl ?_
  refine hr_istore_n hC dX21_readString_5 (by decide) ?_
  refine hr_aload_n hC dX21_readString_6 rfl ?_
  refine hr_iload_n hC dX21_readString_7 rfl ?_
  refine hr_bipush (v := 34) hC dX21_readString_8 rfl ?_
  obtain ⟨r1, e2, h⟩ := hx_bind h
  refine hs_callV0 hC 23 [_, _] _ dX21_readString_10 q3165 q3167 qs181 q335 q3168 np_X21 rfl OB_23 pd_X21_character (Nat.le_of_ble_eq_true rfl) hd1 (okX21_character l E A (d - 1)  (by omega)  e2 am) rfl ?_
  refine hr_istore hC dX21_readString_13 (by decide) ?_
  obtain ⟨r17, e18, h⟩ := hx_bind h
  refine hr_sub _ rfl (ll_X21_readString_15 n hD hem hC n _ _ _ _ _ _ am e18 ?_)
  refine hr_aload_n hC dX21_readString_51 rfl ?_
  refine hr_iload_n hC dX21_readString_52 rfl ?_
  refine hr_iload_n hC dX21_readString_53 rfl ?_
  refine hr_iconst (v := 1) hC dX21_readString_54 rfl ?_
  refine hr_iadd hC dX21_readString_55 ?_
  refine hr_iload_n hC dX21_readString_56 rfl ?_
  refine hr_isub hC dX21_readString_57 ?_
  refine hr_iconst (v := 4) hC dX21_readString_58 rfl ?_
  refine hr_iload_n hC dX21_readString_59 rfl ?_
  obtain ⟨r22, e23, h⟩ := hx_bind h
  refine hs_callV0 hC 23 [_, _, _, _] _ dX21_readString_60 q3151 q3153 qs179 q335 q3154 np_X21 rfl OB_23 pd_X21_token (Nat.le_of_ble_eq_true rfl) hd1 (okX21_token l E A (d - 1)  (by omega)  e23 am) rfl ?_
  refine hr_aload_n hC dX21_readString_63 rfl ?_
  refine hr_iload_n hC dX21_readString_64 rfl ?_
  obtain ⟨r26, e27, h⟩ := hx_bind h
  refine hs_callV0 hC 23 [_] _ dX21_readString_65 q3127 q3129 qs175 q335 q3130 np_X21 rfl OB_23 pd_X21_byteAt (Nat.le_of_ble_eq_true rfl) hd1 (okX21_byteAt l E A (d - 1)  (by omega)  e27 am) rfl ?_
  refine hr_bipush (v := 34) hC dX21_readString_68 rfl ?_
  obtain ⟨v32, hv32, h⟩ := hl_ok h
  have J34 : ∀ w35 : Int32, (if r26 = 34 then (if 200 < r17.2 then 0 else 1) else 0) = w35 → hc_At hc_V0 E 5 X 85 [] [.int w35] r22 am [] := by
    intro w35 hw35
    obtain rfl := hv32.trans hw35
    obtain ⟨c33, h⟩ := hk_ok h
    obtain rfl := Option.some.inj h
    exact hr_zret hC (hb01_n c33) dX21_readString_85
  refine hr_icmp_ne (x := _) hC 84 dX21_readString_70 (by decide) (fun c36 => ?_) (fun c36 => ?_)
  · refine hr_iconst (v := 0) hC dX21_readString_84 rfl ?_
    exact hr_sub _ rfl (J34 _ (by first | (rw [if_neg c36]; done) | (simp only [if_neg c36]; done) | rfl))
  · refine hr_iload_n hC dX21_readString_73 rfl ?_
    refine hr_sipush (v := 200) hC dX21_readString_74 rfl ?_
    refine hr_icmp_gt (x := _) hC 84 dX21_readString_77 (by decide) (fun c37 => ?_) (fun c37 => ?_)
    · refine hr_iconst (v := 0) hC dX21_readString_84 rfl ?_
      exact hr_sub _ rfl (J34 _ (by first | (rw [if_pos c36, if_pos c37]; done) | (simp only [if_pos c36, if_pos c37]; done) | rfl))
    · refine hr_iconst (v := 1) hC dX21_readString_80 rfl ?_
      refine hr_goto hC 85 dX21_readString_81 (by decide) ?_
      exact hr_sub _ rfl (J34 _ (by first | (rw [if_pos c36, if_neg c37]; done) | (simp only [if_pos c36, if_neg c37]; done) | rfl))
def lp_X21_readToken_212 (n : Nat) : Nat → Int32 → Int32 → hc_St → Option (Int32 × hc_St)
  | 0, _, _, _ => none
  | m + 1, y1, y4, σ => if (nI (gL σ 23 1)) ≤ y4 then (some (0, σ)) else (hk (inb y4 (gL σ 23 1)) <| Option.bind (fm_X21_stands n y1 ((gC σ 23 1 y4)) σ) fun r26 => if r26 = 0 then (lp_X21_readToken_212 n m y1 ((y4 + 1)) σ) else (hk (inb y4 (gL σ 23 1)) <| hk (hsi ((gC σ 23 1 y4))) <| Option.bind (fm_X21_token y1 ((sLen ((gC σ 23 1 y4)))) 5 y4 σ) fun r34 => some (1, r34)))
def lp_X21_readToken_15 (n : Nat) : Nat → Int32 → Int32 → hc_St → Option (Int32)
  | 0, _, _, _ => none
  | m + 1, y1, y3, σ => Option.bind (fm_X21_byteAt ((y1 + y3)) σ) fun r82 => Option.bind (fm_X21_isLetter r82 σ) fun r86 => if r86 = 0 then (Option.bind (fm_X21_byteAt ((y1 + y3)) σ) fun r92 => Option.bind (fm_X21_isDigit r92 σ) fun r96 => if r96 = 0 then (some (y3)) else (lp_X21_readToken_15 n m y1 ((y3 + 1)) σ)) else (lp_X21_readToken_15 n m y1 ((y3 + 1)) σ)
/-- HomeCompilerModel.readToken(I)Z -/
def fm_X21_readToken (n : Nat) (x1 : Int32) (σ : hc_St) : Option (Int32 × hc_St) := Option.bind (fm_X21_byteAt x1 σ) fun r1 => Option.bind (fm_X21_isLetter r1 σ) fun r5 => if r5 = 0 then (Option.bind (fm_X21_isDigit r1 σ) fun r11 => if r11 = 0 then (if r1 = 39 then (Option.bind (fm_X21_character ((x1 + 1)) 39 σ) fun r49 => hl (α := Int32) ((if 0 ≤ r49 then (if 1000 ≤ r49 then 2 else 1) else 0)) fun v55 => Option.bind (fm_X21_token x1 ((v55 + 2)) 3 ((jrem r49 1000)) σ) fun r56 => Option.bind (α := Int32) (if v55 ≤ 0 then (some (0)) else (Option.bind (fm_X21_byteAt ((((x1 + 1)) + v55)) r56) fun r66 => if r66 = 39 then (some (1)) else (some (0)))) fun r62 => hk (hb01 r62) <| some (r62, r56)) else (if r1 = 34 then (Option.bind (fm_X21_readString n x1 σ) fun r44 => hk (hb01 r44.1) <| some (r44.1, r44.2)) else (if r1 = 47 then (Option.bind (fm_X21_byteAt ((x1 + 1)) σ) fun r38 => if r38 = 42 then (some (0, σ)) else (lp_X21_readToken_212 n n x1 0 σ)) else (lp_X21_readToken_212 n n x1 0 σ)))) else (Option.bind (fm_X21_readNumber n x1 σ) fun r77 => hk (hb01 r77.1) <| some (r77.1, r77.2))) else (Option.bind (lp_X21_readToken_15 n n x1 0 σ) fun r102 => Option.bind (fm_X21_keyword n x1 r102 σ) fun r107 => hl (α := Int32) ((if r107 < 0 then 1 else 2)) fun v113 => Option.bind (fm_X21_token x1 r102 v113 r107 σ) fun r114 => hl (α := Int32) ((if 24 < r102 then 0 else 1)) fun v120 => hk (hb01 v120) <| some (v120, r114))
set_option maxRecDepth 20000 in
set_option maxHeartbeats 4000000 in
theorem ll_X21_readToken_212 {l : Launch} {E : hc_E} {A : Nat → Prop} {am : Nat → Nat → Nat} {d : Nat} {X : hc_X} (n : Nat) (hD : 11 ≤ d) (hem : X.2.2.2.2.2.2.2.2.2.1.exceptionTable.isEmpty = true) : ∀ (m : Nat) (σ : hc_St) (y1 : Int32) (y4 : Int32) (rl : (Int32 × hc_St)), lp_X21_readToken_212 n m y1 y4 σ = some rl → hc_C hc_V0 E cX21_readToken 5 RX21 (some .boolean) d (.inl (some (.int rl.1))) rl.2 (l, A, am, []) X → ∀ am1, hc_At hc_V0 E 5 X 212 [(0, .ref (E.2.1 23)), (1, .int y1), (4, .int y4)] [] σ am1 [] := by
  have hd1 : 1 ≤ d := by omega
  have hd8 : 9 ≤ d := by omega
  intro m
  induction m with
  | zero =>
    intro σ y1 y4 rl h
    cases h
  | succ m ih =>
    intro σ y1 y4 rl h hC am1
    rw [lp_X21_readToken_212] at h
    refine hr_iload hC dX21_readToken_212 rfl ?_
    refine hr_aload_n hC dX21_readToken_214 rfl ?_
    refine hr_gA hC F23_1 rfl dX21_readToken_215 q2843 ?_
    refine hs_alen4 hC A23_1 dX21_readToken_218 ?_
    refine hr_icmp_ge (x := _) hC 263 dX21_readToken_219 (by decide) (fun c24 => ?_) (fun c24 => ?_)
    · rw [if_pos c24] at h
      refine hr_iconst (v := 0) hC dX21_readToken_263 rfl ?_
      obtain rfl := Option.some.inj h
      exact hr_zret hC rfl dX21_readToken_264
    · rw [if_neg c24] at h
      refine hr_aload_n hC dX21_readToken_222 rfl ?_
      refine hr_iload_n hC dX21_readToken_223 rfl ?_
      refine hr_aload_n hC dX21_readToken_224 rfl ?_
      refine hr_gA hC F23_1 rfl dX21_readToken_225 q2843 ?_
      refine hr_iload hC dX21_readToken_228 rfl ?_
      obtain ⟨c25, h⟩ := hk_ok h
      refine hs_sald hC A23_1 c25 dX21_readToken_230 ?_
      obtain ⟨r26, e27, h⟩ := hx_bind h
      refine hs_callV0 hC 23 [_, _] _ dX21_readToken_231 q3146 q3148 qs178 q335 q3149 np_X21 rfl OB_23 pd_X21_stands (Nat.le_of_ble_eq_true rfl) hd1 (okX21_stands l E A (d - 1) n (by omega)  e27 am1) rfl ?_
      refine hr_if_eq (x := _) hC 257 dX21_readToken_234 (by decide) (fun c31 => ?_) (fun c31 => ?_)
      · rw [if_pos c31] at h
        refine hr_iinc (v := y4 + 1) hC dX21_readToken_257 rfl rfl (by decide) ?_
        refine hr_goto hC 212 dX21_readToken_260 (by decide) ?_
        exact hr_sub _ rfl (ih _ _ _ _ h hC am1)
      · rw [if_neg c31] at h
        refine hr_aload_n hC dX21_readToken_237 rfl ?_
        refine hr_iload_n hC dX21_readToken_238 rfl ?_
        refine hr_aload_n hC dX21_readToken_239 rfl ?_
        refine hr_gA hC F23_1 rfl dX21_readToken_240 q2843 ?_
        refine hr_iload hC dX21_readToken_243 rfl ?_
        obtain ⟨c32, h⟩ := hk_ok h
        refine hs_sald hC A23_1 c32 dX21_readToken_245 ?_
        obtain ⟨c33, h⟩ := hk_ok h
        refine hr_slen hC c33 dX21_readToken_246 q3145 hd8 (Nat.le_of_ble_eq_true rfl) ?_
        refine hr_iconst (v := 5) hC dX21_readToken_249 rfl ?_
        refine hr_iload hC dX21_readToken_250 rfl ?_
        obtain ⟨r34, e35, h⟩ := hx_bind h
        refine hs_callV0 hC 23 [_, _, _, _] _ dX21_readToken_252 q3151 q3153 qs179 q335 q3154 np_X21 rfl OB_23 pd_X21_token (Nat.le_of_ble_eq_true rfl) hd1 (okX21_token l E A (d - 1)  (by omega)  e35 am1) rfl ?_
        refine hr_iconst (v := 1) hC dX21_readToken_255 rfl ?_
        obtain rfl := Option.some.inj h
        exact hr_zret hC rfl dX21_readToken_256
set_option maxRecDepth 20000 in
set_option maxHeartbeats 4000000 in
theorem ll_X21_readToken_15 {l : Launch} {E : hc_E} {A : Nat → Prop} {am : Nat → Nat → Nat} {d : Nat} {X : hc_X} (n : Nat) (hD : 11 ≤ d) (hem : X.2.2.2.2.2.2.2.2.2.1.exceptionTable.isEmpty = true) {oc : hc_Oc} {σe : hc_St} (hC : hc_C hc_V0 E cX21_readToken 5 RX21 (some .boolean) d oc σe (l, A, am, []) X) : ∀ (m : Nat) (σ : hc_St) (y1 : Int32) (y3 : Int32) (rl : Int32) (am1 : Nat → Nat → Nat), lp_X21_readToken_15 n m y1 y3 σ = some rl → (hc_At hc_V0 E 5 X 47 [(0, .ref (E.2.1 23)), (1, .int y1), (3, .int rl)] [] σ am1 []) → hc_At hc_V0 E 5 X 15 [(0, .ref (E.2.1 23)), (1, .int y1), (3, .int y3)] [] σ am1 [] := by
  have hd1 : 1 ≤ d := by omega
  have hd8 : 9 ≤ d := by omega
  intro m
  induction m with
  | zero =>
    intro σ y1 y3 rl am1 h
    cases h
  | succ m ih =>
    intro σ y1 y3 rl am1 h JX
    rw [lp_X21_readToken_15] at h
    refine hr_aload_n hC dX21_readToken_15 rfl ?_
    refine hr_iload_n hC dX21_readToken_16 rfl ?_
    refine hr_iload_n hC dX21_readToken_17 rfl ?_
    refine hr_iadd hC dX21_readToken_18 ?_
    obtain ⟨r82, e83, h⟩ := hx_bind h
    refine hs_callV0 hC 23 [_] _ dX21_readToken_19 q3127 q3129 qs175 q335 q3130 np_X21 rfl OB_23 pd_X21_byteAt (Nat.le_of_ble_eq_true rfl) hd1 (okX21_byteAt l E A (d - 1)  (by omega)  e83 am1) rfl ?_
    obtain ⟨r86, e87, h⟩ := hx_bind h
    refine hs_callS0 hC [_] _ dX21_readToken_22 q3135 q3136 q335 q3137 np_X21 rfl pd_X21_isLetter (Nat.le_of_ble_eq_true rfl) hd1 (okX21_isLetter l E A (d - 1)  (by omega)  e87 am1) rfl ?_
    refine hr_if_ne (x := _) hC 41 dX21_readToken_25 (by decide) (fun c91 => ?_) (fun c91 => ?_)
    · rw [if_neg c91] at h
      refine hr_iinc (v := y3 + 1) hC dX21_readToken_41 rfl rfl (by decide) ?_
      refine hr_goto hC 15 dX21_readToken_44 (by decide) ?_
      exact hr_sub _ rfl (ih _ _ _ _ am1 h JX)
    · rw [if_pos c91] at h
      refine hr_aload_n hC dX21_readToken_28 rfl ?_
      refine hr_iload_n hC dX21_readToken_29 rfl ?_
      refine hr_iload_n hC dX21_readToken_30 rfl ?_
      refine hr_iadd hC dX21_readToken_31 ?_
      obtain ⟨r92, e93, h⟩ := hx_bind h
      refine hs_callV0 hC 23 [_] _ dX21_readToken_32 q3127 q3129 qs175 q335 q3130 np_X21 rfl OB_23 pd_X21_byteAt (Nat.le_of_ble_eq_true rfl) hd1 (okX21_byteAt l E A (d - 1)  (by omega)  e93 am1) rfl ?_
      obtain ⟨r96, e97, h⟩ := hx_bind h
      refine hs_callS0 hC [_] _ dX21_readToken_35 q3138 q3139 q335 q3140 np_X21 rfl pd_X21_isDigit (Nat.le_of_ble_eq_true rfl) hd1 (okX21_isDigit l E A (d - 1)  (by omega)  e97 am1) rfl ?_
      refine hr_if_eq (x := _) hC 47 dX21_readToken_38 (by decide) (fun c101 => ?_) (fun c101 => ?_)
      · rw [if_pos c101] at h
        obtain rfl := Option.some.inj h
        exact hr_sub _ rfl (JX)
      · rw [if_neg c101] at h
        refine hr_iinc (v := y3 + 1) hC dX21_readToken_41 rfl rfl (by decide) ?_
        refine hr_goto hC 15 dX21_readToken_44 (by decide) ?_
        exact hr_sub _ rfl (ih _ _ _ _ am1 h JX)
set_option maxRecDepth 20000 in
set_option maxHeartbeats 4000000 in
theorem okX21_readToken (l : Launch) (E : hc_E) (A : Nat → Prop) (d : Nat) (n : Nat) (hD : 11 ≤ d) {x1 : Int32} {σ : hc_St} {r : (Int32 × hc_St)} (h : fm_X21_readToken n x1 σ = some r) (am : Nat → Nat → Nat) : hc_M l hc_V0 yX21_readToken (ws_ yX21_readToken cX21_readToken 5 (some .boolean)) d E A [.ref (E.2.1 23), .int x1] am [] σ (.inl (some (.int r.1))) r.2 := by
  have hd1 : 1 ≤ d := by omega
  have hd8 : 9 ≤ d := by omega
  refine hc_enter2 (own := RX21) [(0, .ref (E.2.1 23)), (1, .int x1)] pl_X21 rfl hc_V0_st hc_G0_nd rfl (Nat.le_of_ble_eq_true rfl) (fun X hC hem => ?_)
  unfold fm_X21_readToken at h
  refine hr_aload_n hC dX21_readToken_0 rfl ?_
  refine hr_iload_n hC dX21_readToken_1 rfl ?_
  obtain ⟨r1, e2, h⟩ := hx_bind h
  refine hs_callV0 hC 23 [_] _ dX21_readToken_2 q3127 q3129 qs175 q335 q3130 np_X21 rfl OB_23 pd_X21_byteAt (Nat.le_of_ble_eq_true rfl) hd1 (okX21_byteAt l E A (d - 1)  (by omega)  e2 am) rfl ?_
  refine hr_istore_n hC dX21_readToken_5 (by decide) ?_
  refine hr_iconst (v := 0) hC dX21_readToken_6 rfl ?_
  refine hr_istore_n hC dX21_readToken_7 (by decide) ?_
  refine hr_iload_n hC dX21_readToken_8 rfl ?_
  obtain ⟨r5, e6, h⟩ := hx_bind h
  refine hs_callS0 hC [_] _ dX21_readToken_9 q3135 q3136 q335 q3137 np_X21 rfl pd_X21_isLetter (Nat.le_of_ble_eq_true rfl) hd1 (okX21_isLetter l E A (d - 1)  (by omega)  e6 am) rfl ?_
  refine hr_if_eq (x := _) hC 85 dX21_readToken_12 (by decide) (fun c10 => ?_) (fun c10 => ?_)
  · rw [if_pos c10] at h
    refine hr_iload_n hC dX21_readToken_85 rfl ?_
    obtain ⟨r11, e12, h⟩ := hx_bind h
    refine hs_callS0 hC [_] _ dX21_readToken_86 q3138 q3139 q335 q3140 np_X21 rfl pd_X21_isDigit (Nat.le_of_ble_eq_true rfl) hd1 (okX21_isDigit l E A (d - 1)  (by omega)  e12 am) rfl ?_
    refine hr_if_eq (x := _) hC 98 dX21_readToken_89 (by decide) (fun c16 => ?_) (fun c16 => ?_)
    · rw [if_pos c16] at h
      refine hr_iload_n hC dX21_readToken_98 rfl ?_
      refine hr_bipush (v := 39) hC dX21_readToken_99 rfl ?_
      refine hr_icmp_ne (x := _) hC 177 dX21_readToken_101 (by decide) (fun c18 => ?_) (fun c18 => ?_)
      · rw [if_neg c18] at h
        refine hr_iload_n hC dX21_readToken_177 rfl ?_
        refine hr_bipush (v := 34) hC dX21_readToken_178 rfl ?_
        refine hr_icmp_ne (x := _) hC 189 dX21_readToken_180 (by decide) (fun c20 => ?_) (fun c20 => ?_)
        · rw [if_neg c20] at h
          refine hr_iload_n hC dX21_readToken_189 rfl ?_
          refine hr_bipush (v := 47) hC dX21_readToken_190 rfl ?_
          refine hr_icmp_ne (x := _) hC 209 dX21_readToken_192 (by decide) (fun c22 => ?_) (fun c22 => ?_)
          · rw [if_neg c22] at h
            refine hr_iconst (v := 0) hC dX21_readToken_209 rfl ?_
            refine hr_istore hC dX21_readToken_210 (by decide) ?_
            exact hr_sub _ rfl (ll_X21_readToken_212 n hD hem n _ _ _ _ h hC am)
          · rw [if_pos c22] at h
            refine hr_aload_n hC dX21_readToken_195 rfl ?_
            refine hr_iload_n hC dX21_readToken_196 rfl ?_
            refine hr_iconst (v := 1) hC dX21_readToken_197 rfl ?_
            refine hr_iadd hC dX21_readToken_198 ?_
            obtain ⟨r38, e39, h⟩ := hx_bind h
            refine hs_callV0 hC 23 [_] _ dX21_readToken_199 q3127 q3129 qs175 q335 q3130 np_X21 rfl OB_23 pd_X21_byteAt (Nat.le_of_ble_eq_true rfl) hd1 (okX21_byteAt l E A (d - 1)  (by omega)  e39 am) rfl ?_
            refine hr_bipush (v := 42) hC dX21_readToken_202 rfl ?_
            refine hr_icmp_ne (x := _) hC 209 dX21_readToken_204 (by decide) (fun c43 => ?_) (fun c43 => ?_)
            · rw [if_neg c43] at h
              refine hr_iconst (v := 0) hC dX21_readToken_209 rfl ?_
              refine hr_istore hC dX21_readToken_210 (by decide) ?_
              exact hr_sub _ rfl (ll_X21_readToken_212 n hD hem n _ _ _ _ h hC am)
            · rw [if_pos c43] at h
              refine hr_iconst (v := 0) hC dX21_readToken_207 rfl ?_
              obtain rfl := Option.some.inj h
              exact hr_zret hC rfl dX21_readToken_208
        · rw [if_pos c20] at h
          refine hr_aload_n hC dX21_readToken_183 rfl ?_
          refine hr_iload_n hC dX21_readToken_184 rfl ?_
          obtain ⟨r44, e45, h⟩ := hx_bind h
          refine hs_callV0 hC 23 [_] _ dX21_readToken_185 q3169 q3171 qs182 q335 q3172 np_X21 rfl OB_23 pd_X21_readString (Nat.le_of_ble_eq_true rfl) hd1 (okX21_readString l E A (d - 1) n (by omega)  e45 am) rfl ?_
          obtain ⟨c48, h⟩ := hk_ok h
          obtain rfl := Option.some.inj h
          exact hr_zret hC (hb01_n c48) dX21_readToken_188
      · rw [if_pos c18] at h
        refine hr_aload_n hC dX21_readToken_104 rfl ?_
        refine hr_iload_n hC dX21_readToken_105 rfl ?_
        refine hr_iconst (v := 1) hC dX21_readToken_106 rfl ?_
        refine hr_iadd hC dX21_readToken_107 ?_
        refine hr_bipush (v := 39) hC dX21_readToken_108 rfl ?_
        obtain ⟨r49, e50, h⟩ := hx_bind h
        refine hs_callV0 hC 23 [_, _] _ dX21_readToken_110 q3165 q3167 qs181 q335 q3168 np_X21 rfl OB_23 pd_X21_character (Nat.le_of_ble_eq_true rfl) hd1 (okX21_character l E A (d - 1)  (by omega)  e50 am) rfl ?_
        refine hr_istore hC dX21_readToken_113 (by decide) ?_
        refine hr_iload hC dX21_readToken_115 rfl ?_
        obtain ⟨v55, hv55, h⟩ := hl_ok h
        have J73 : ∀ w74 : Int32, (if 0 ≤ r49 then (if 1000 ≤ r49 then 2 else 1) else 0) = w74 → hc_At hc_V0 E 5 X 137 [(0, .ref (E.2.1 23)), (1, .int x1), (4, .int r49)] [.int w74] σ am [] := by
          intro w74 hw74
          obtain rfl := hv55.trans hw74
          refine hr_istore_n hC dX21_readToken_137 (by decide) ?_
          refine hr_aload_n hC dX21_readToken_138 rfl ?_
          refine hr_iload_n hC dX21_readToken_139 rfl ?_
          refine hr_iload_n hC dX21_readToken_140 rfl ?_
          refine hr_iconst (v := 2) hC dX21_readToken_141 rfl ?_
          refine hr_iadd hC dX21_readToken_142 ?_
          refine hr_iconst (v := 3) hC dX21_readToken_143 rfl ?_
          refine hr_iload hC dX21_readToken_144 rfl ?_
          refine hr_sipush (v := 1000) hC dX21_readToken_146 rfl ?_
          refine hr_irem hC dX21_readToken_149 (by decide) ?_
          obtain ⟨r56, e57, h⟩ := hx_bind h
          refine hs_callV0 hC 23 [_, _, _, _] _ dX21_readToken_150 q3151 q3153 qs179 q335 q3154 np_X21 rfl OB_23 pd_X21_token (Nat.le_of_ble_eq_true rfl) hd1 (okX21_token l E A (d - 1)  (by omega)  e57 am) rfl ?_
          refine hr_iload_n hC dX21_readToken_153 rfl ?_
          obtain ⟨r62, e63, h⟩ := hx_bind h
          have J64 : hc_At hc_V0 E 5 X 176 [] [.int r62] r56 am [] := by
            obtain ⟨c72, h⟩ := hk_ok h
            obtain rfl := Option.some.inj h
            exact hr_zret hC (hb01_n c72) dX21_readToken_176
          clear h
          have h := e63
          refine hr_if_le (x := _) hC 175 dX21_readToken_154 (by decide) (fun c61 => ?_) (fun c61 => ?_)
          · rw [if_pos c61] at h
            refine hr_iconst (v := 0) hC dX21_readToken_175 rfl ?_
            obtain rfl := Option.some.inj h
            exact hr_sub _ rfl (J64)
          · rw [if_neg c61] at h
            refine hr_aload_n hC dX21_readToken_157 rfl ?_
            refine hr_iload_n hC dX21_readToken_158 rfl ?_
            refine hr_iconst (v := 1) hC dX21_readToken_159 rfl ?_
            refine hr_iadd hC dX21_readToken_160 ?_
            refine hr_iload_n hC dX21_readToken_161 rfl ?_
            refine hr_iadd hC dX21_readToken_162 ?_
            obtain ⟨r66, e67, h⟩ := hx_bind h
            refine hs_callV0 hC 23 [_] _ dX21_readToken_163 q3127 q3129 qs175 q335 q3130 np_X21 rfl OB_23 pd_X21_byteAt (Nat.le_of_ble_eq_true rfl) hd1 (okX21_byteAt l E A (d - 1)  (by omega)  e67 am) rfl ?_
            refine hr_bipush (v := 39) hC dX21_readToken_166 rfl ?_
            refine hr_icmp_ne (x := _) hC 175 dX21_readToken_168 (by decide) (fun c71 => ?_) (fun c71 => ?_)
            · rw [if_neg c71] at h
              refine hr_iconst (v := 0) hC dX21_readToken_175 rfl ?_
              obtain rfl := Option.some.inj h
              exact hr_sub _ rfl (J64)
            · rw [if_pos c71] at h
              refine hr_iconst (v := 1) hC dX21_readToken_171 rfl ?_
              refine hr_goto hC 176 dX21_readToken_172 (by decide) ?_
              obtain rfl := Option.some.inj h
              exact hr_sub _ rfl (J64)
        refine hr_if_ge (x := _) hC 124 dX21_readToken_117 (by decide) (fun c75 => ?_) (fun c75 => ?_)
        · refine hr_iload hC dX21_readToken_124 rfl ?_
          refine hr_sipush (v := 1000) hC dX21_readToken_126 rfl ?_
          refine hr_icmp_ge (x := _) hC 136 dX21_readToken_129 (by decide) (fun c76 => ?_) (fun c76 => ?_)
          · refine hr_iconst (v := 2) hC dX21_readToken_136 rfl ?_
            exact hr_sub _ rfl (J73 _ (by first | (rw [if_pos c75, if_pos c76]; done) | (simp only [if_pos c75, if_pos c76]; done) | rfl))
          · refine hr_iconst (v := 1) hC dX21_readToken_132 rfl ?_
            refine hr_goto hC 137 dX21_readToken_133 (by decide) ?_
            exact hr_sub _ rfl (J73 _ (by first | (rw [if_pos c75, if_neg c76]; done) | (simp only [if_pos c75, if_neg c76]; done) | rfl))
        · refine hr_iconst (v := 0) hC dX21_readToken_120 rfl ?_
          refine hr_goto hC 137 dX21_readToken_121 (by decide) ?_
          exact hr_sub _ rfl (J73 _ (by first | (rw [if_neg c75]; done) | (simp only [if_neg c75]; done) | rfl))
    · rw [if_neg c16] at h
      refine hr_aload_n hC dX21_readToken_92 rfl ?_
      refine hr_iload_n hC dX21_readToken_93 rfl ?_
      obtain ⟨r77, e78, h⟩ := hx_bind h
      refine hs_callV0 hC 23 [_] _ dX21_readToken_94 q3155 q3157 qs180 q335 q3158 np_X21 rfl OB_23 pd_X21_readNumber (Nat.le_of_ble_eq_true rfl) hd1 (okX21_readNumber l E A (d - 1) n (by omega)  e78 am) rfl ?_
      obtain ⟨c81, h⟩ := hk_ok h
      obtain rfl := Option.some.inj h
      exact hr_zret hC (hb01_n c81) dX21_readToken_97
  · rw [if_neg c10] at h
    obtain ⟨r102, e103, h⟩ := hx_bind h
    refine hr_sub _ rfl (ll_X21_readToken_15 n hD hem hC n _ _ _ _ am e103 ?_)
    refine hr_aload_n hC dX21_readToken_47 rfl ?_
    refine hr_iload_n hC dX21_readToken_48 rfl ?_
    refine hr_iload_n hC dX21_readToken_49 rfl ?_
    obtain ⟨r107, e108, h⟩ := hx_bind h
    refine hs_callV0 hC 23 [_, _] _ dX21_readToken_50 q3141 q3143 qs177 q335 q3144 np_X21 rfl OB_23 pd_X21_keyword (Nat.le_of_ble_eq_true rfl) hd1 (okX21_keyword l E A (d - 1) n (by omega)  e108 am) rfl ?_
    refine hr_istore hC dX21_readToken_53 (by decide) ?_
    refine hr_aload_n hC dX21_readToken_55 rfl ?_
    refine hr_iload_n hC dX21_readToken_56 rfl ?_
    refine hr_iload_n hC dX21_readToken_57 rfl ?_
    refine hr_iload hC dX21_readToken_58 rfl ?_
    obtain ⟨v113, hv113, h⟩ := hl_ok h
    have J125 : ∀ w126 : Int32, (if r107 < 0 then 1 else 2) = w126 → hc_At hc_V0 E 5 X 68 [(3, .int r102), (4, .int r107)] [.int w126, .int r102, .int x1, .ref (E.2.1 23)] σ am [] := by
      intro w126 hw126
      obtain rfl := hv113.trans hw126
      refine hr_iload hC dX21_readToken_68 rfl ?_
      obtain ⟨r114, e115, h⟩ := hx_bind h
      refine hs_callV0 hC 23 [_, _, _, _] _ dX21_readToken_70 q3151 q3153 qs179 q335 q3154 np_X21 rfl OB_23 pd_X21_token (Nat.le_of_ble_eq_true rfl) hd1 (okX21_token l E A (d - 1)  (by omega)  e115 am) rfl ?_
      refine hr_iload_n hC dX21_readToken_73 rfl ?_
      refine hr_bipush (v := 24) hC dX21_readToken_74 rfl ?_
      obtain ⟨v120, hv120, h⟩ := hl_ok h
      have J122 : ∀ w123 : Int32, (if 24 < r102 then 0 else 1) = w123 → hc_At hc_V0 E 5 X 84 [] [.int w123] r114 am [] := by
        intro w123 hw123
        obtain rfl := hv120.trans hw123
        obtain ⟨c121, h⟩ := hk_ok h
        obtain rfl := Option.some.inj h
        exact hr_zret hC (hb01_n c121) dX21_readToken_84
      refine hr_icmp_gt (x := _) hC 83 dX21_readToken_76 (by decide) (fun c124 => ?_) (fun c124 => ?_)
      · refine hr_iconst (v := 0) hC dX21_readToken_83 rfl ?_
        exact hr_sub _ rfl (J122 _ (by first | (rw [if_pos c124]; done) | (simp only [if_pos c124]; done) | rfl))
      · refine hr_iconst (v := 1) hC dX21_readToken_79 rfl ?_
        refine hr_goto hC 84 dX21_readToken_80 (by decide) ?_
        exact hr_sub _ rfl (J122 _ (by first | (rw [if_neg c124]; done) | (simp only [if_neg c124]; done) | rfl))
    refine hr_if_lt (x := _) hC 67 dX21_readToken_60 (by decide) (fun c127 => ?_) (fun c127 => ?_)
    · refine hr_iconst (v := 1) hC dX21_readToken_67 rfl ?_
      exact hr_sub _ rfl (J125 _ (by first | (rw [if_pos c127]; done) | (simp only [if_pos c127]; done) | rfl))
    · refine hr_iconst (v := 2) hC dX21_readToken_63 rfl ?_
      refine hr_goto hC 68 dX21_readToken_64 (by decide) ?_
      exact hr_sub _ rfl (J125 _ (by first | (rw [if_neg c127]; done) | (simp only [if_neg c127]; done) | rfl))
def lp_X21_readTokens_13 (n : Nat) : Nat → Int32 → Int32 → hc_St → Option (hc_St × Int32)
  | 0, _, _, _ => none
  | m + 1, y1, y2, σ => if y2 = 0 then (some (σ, y2)) else (if (gI σ 23 8) ≤ y1 then (some (σ, y2)) else (Option.bind (fm_X21_readToken n y1 σ) fun r10 => Option.bind (α := hc_St × Int32) (if r10.1 = 0 then (hl (pI r10.2 23 10 ((gI σ 23 10))) fun σ26 => Option.bind (fm_X21_token y1 0 6 ((-1)) σ26) fun r27 => some (r27, y1)) else (hk (inb ((gI σ 23 10)) (gL r10.2 23 11)) <| hk (inb ((gI σ 23 10)) (gL r10.2 23 12)) <| Option.bind (fm_X21_skip n ((((gC r10.2 23 11 ((gI σ 23 10)))) + ((gC r10.2 23 12 ((gI σ 23 10)))))) r10.2) fun r22 => some (r10.2, r22))) fun r16 => lp_X21_readTokens_13 n m r16.2 r10.1 r16.1))
/-- HomeCompilerModel.readTokens()V -/
def fm_X21_readTokens (n : Nat)  (σ : hc_St) : Option hc_St := hl (pI σ 23 10 0) fun σ1 => Option.bind (fm_X21_skip n 0 σ1) fun r2 => Option.bind (lp_X21_readTokens_13 n n r2 1 σ1) fun r31 => Option.bind (α := hc_St) (if r31.2 = 0 then (some (r31.1)) else (Option.bind (fm_X21_token ((gI r31.1 23 8)) 0 7 ((-1)) r31.1) fun r42 => some (r42))) fun r38 => some r38
set_option maxRecDepth 20000 in
set_option maxHeartbeats 4000000 in
theorem ll_X21_readTokens_13 {l : Launch} {E : hc_E} {A : Nat → Prop} {am : Nat → Nat → Nat} {d : Nat} {X : hc_X} (n : Nat) (hD : 12 ≤ d) (hem : X.2.2.2.2.2.2.2.2.2.1.exceptionTable.isEmpty = true) {oc : hc_Oc} {σe : hc_St} (hC : hc_C hc_V0 E cX21_readTokens 4 RX21 none d oc σe (l, A, am, []) X) : ∀ (m : Nat) (σ : hc_St) (y1 : Int32) (y2 : Int32) (rl : hc_St × Int32) (am1 : Nat → Nat → Nat), lp_X21_readTokens_13 n m y1 y2 σ = some rl → (hc_At hc_V0 E 4 X 78 [(0, .ref (E.2.1 23)), (2, .int rl.2)] [] rl.1 am1 []) → hc_At hc_V0 E 4 X 13 [(0, .ref (E.2.1 23)), (1, .int y1), (2, .int y2)] [] σ am1 [] := by
  have hd1 : 1 ≤ d := by omega
  have hd8 : 9 ≤ d := by omega
  intro m
  induction m with
  | zero =>
    intro σ y1 y2 rl am1 h
    cases h
  | succ m ih =>
    intro σ y1 y2 rl am1 h JX
    rw [lp_X21_readTokens_13] at h
    refine hr_iload_n hC dX21_readTokens_13 rfl ?_
    refine hr_if_eq (x := _) hC 78 dX21_readTokens_14 (by decide) (fun c7 => ?_) (fun c7 => ?_)
    · rw [if_pos c7] at h
      obtain rfl := Option.some.inj h
      exact hr_sub _ rfl (JX)
    · rw [if_neg c7] at h
      refine hr_iload_n hC dX21_readTokens_17 rfl ?_
      refine hr_aload_n hC dX21_readTokens_18 rfl ?_
      refine hr_gI hC F23_8 dX21_readTokens_19 q2850 ?_
      refine hr_icmp_ge (x := _) hC 78 dX21_readTokens_22 (by decide) (fun c9 => ?_) (fun c9 => ?_)
      · rw [if_pos c9] at h
        obtain rfl := Option.some.inj h
        exact hr_sub _ rfl (JX)
      · rw [if_neg c9] at h
        refine hr_aload_n hC dX21_readTokens_25 rfl ?_
        refine hr_gI hC F23_10 dX21_readTokens_26 q2852 ?_
        refine hr_istore_n hC dX21_readTokens_29 (by decide) ?_
        refine hr_aload_n hC dX21_readTokens_30 rfl ?_
        refine hr_iload_n hC dX21_readTokens_31 rfl ?_
        obtain ⟨r10, e11, h⟩ := hx_bind h
        refine hs_callV0 hC 23 [_] _ dX21_readTokens_32 q3131 q3133 qs176 q335 q3134 np_X21 rfl OB_23 pd_X21_readToken (Nat.le_of_ble_eq_true rfl) hd1 (okX21_readToken l E A (d - 1) n (by omega)  e11 am1) rfl ?_
        refine hr_istore_n hC dX21_readTokens_35 (by decide) ?_
        refine hr_iload_n hC dX21_readTokens_36 rfl ?_
        obtain ⟨r16, e17, h⟩ := hx_bind h
        have J18 : hc_At hc_V0 E 4 X 75 [(0, .ref (E.2.1 23)), (1, .int r16.2), (2, .int r10.1)] [] r16.1 am1 [] := by
          refine hr_goto hC 13 dX21_readTokens_75 (by decide) ?_
          exact hr_sub _ rfl (ih _ _ _ _ am1 h JX)
        clear h
        have h := e17
        refine hr_if_ne (x := _) hC 57 dX21_readTokens_37 (by decide) (fun c15 => ?_) (fun c15 => ?_)
        · rw [if_neg c15] at h
          refine hr_aload_n hC dX21_readTokens_57 rfl ?_
          refine hr_aload_n hC dX21_readTokens_58 rfl ?_
          refine hr_gA hC F23_11 rfl dX21_readTokens_59 q2853 ?_
          refine hr_iload_n hC dX21_readTokens_62 rfl ?_
          obtain ⟨c20, h⟩ := hk_ok h
          refine hs_iald hC A23_11 c20 dX21_readTokens_63 ?_
          refine hr_aload_n hC dX21_readTokens_64 rfl ?_
          refine hr_gA hC F23_12 rfl dX21_readTokens_65 q2854 ?_
          refine hr_iload_n hC dX21_readTokens_68 rfl ?_
          obtain ⟨c21, h⟩ := hk_ok h
          refine hs_iald hC A23_12 c21 dX21_readTokens_69 ?_
          refine hr_iadd hC dX21_readTokens_70 ?_
          obtain ⟨r22, e23, h⟩ := hx_bind h
          refine hs_callV0 hC 23 [_] _ dX21_readTokens_71 q3123 q3125 qs174 q335 q3126 np_X21 rfl OB_23 pd_X21_skip (Nat.le_of_ble_eq_true rfl) hd1 (okX21_skip l E A (d - 1) n (by omega)  e23 am1) rfl ?_
          refine hr_istore_n hC dX21_readTokens_74 (by decide) ?_
          obtain rfl := Option.some.inj h
          exact hr_sub _ rfl (J18)
        · rw [if_pos c15] at h
          refine hr_aload_n hC dX21_readTokens_40 rfl ?_
          refine hr_iload_n hC dX21_readTokens_41 rfl ?_
          obtain ⟨σ26, hσ26, h⟩ := hl_ok h
          refine hr_pI hC F23_10 PX21_10 dX21_readTokens_42 q2852 ?_
          rw [← hσ26]
          refine hr_aload_n hC dX21_readTokens_45 rfl ?_
          refine hr_iload_n hC dX21_readTokens_46 rfl ?_
          refine hr_iconst (v := 0) hC dX21_readTokens_47 rfl ?_
          refine hr_bipush (v := 6) hC dX21_readTokens_48 rfl ?_
          refine hr_iconst (v := (-1)) hC dX21_readTokens_50 rfl ?_
          obtain ⟨r27, e28, h⟩ := hx_bind h
          refine hs_callV0 hC 23 [_, _, _, _] _ dX21_readTokens_51 q3151 q3153 qs179 q335 q3154 np_X21 rfl OB_23 pd_X21_token (Nat.le_of_ble_eq_true rfl) hd1 (okX21_token l E A (d - 1)  (by omega)  e28 am1) rfl ?_
          refine hr_goto hC 75 dX21_readTokens_54 (by decide) ?_
          obtain rfl := Option.some.inj h
          exact hr_sub _ rfl (J18)
set_option maxRecDepth 20000 in
set_option maxHeartbeats 4000000 in
theorem okX21_readTokens (l : Launch) (E : hc_E) (A : Nat → Prop) (d : Nat) (n : Nat) (hD : 12 ≤ d)  {σ : hc_St} {r : hc_St} (h : fm_X21_readTokens n  σ = some r) (am : Nat → Nat → Nat) : hc_M l hc_V0 yX21_readTokens (ws_ yX21_readTokens cX21_readTokens 4 none) d E A [.ref (E.2.1 23)] am [] σ (.inl none) r := by
  have hd1 : 1 ≤ d := by omega
  have hd8 : 9 ≤ d := by omega
  refine hc_enter2 (own := RX21) [(0, .ref (E.2.1 23))] pl_X21 rfl hc_V0_st hc_G0_nd rfl (Nat.le_of_ble_eq_true rfl) (fun X hC hem => ?_)
  unfold fm_X21_readTokens at h
  refine hr_aload_n hC dX21_readTokens_0 rfl ?_
  refine hr_iconst (v := 0) hC dX21_readTokens_1 rfl ?_
  obtain ⟨σ1, hσ1, h⟩ := hl_ok h
  refine hr_pI hC F23_10 PX21_10 dX21_readTokens_2 q2852 ?_
  rw [← hσ1]
  refine hr_aload_n hC dX21_readTokens_5 rfl ?_
  refine hr_iconst (v := 0) hC dX21_readTokens_6 rfl ?_
  obtain ⟨r2, e3, h⟩ := hx_bind h
  refine hs_callV0 hC 23 [_] _ dX21_readTokens_7 q3123 q3125 qs174 q335 q3126 np_X21 rfl OB_23 pd_X21_skip (Nat.le_of_ble_eq_true rfl) hd1 (okX21_skip l E A (d - 1) n (by omega)  e3 am) rfl ?_
  refine hr_istore_n hC dX21_readTokens_10 (by decide) ?_
  refine hr_iconst (v := 1) hC dX21_readTokens_11 rfl ?_
  refine hr_istore_n hC dX21_readTokens_12 (by decide) ?_
  obtain ⟨r31, e32, h⟩ := hx_bind h
  refine hr_sub _ rfl (ll_X21_readTokens_13 n hD hem hC n _ _ _ _ am e32 ?_)
  refine hr_iload_n hC dX21_readTokens_78 rfl ?_
  obtain ⟨r38, e39, h⟩ := hx_bind h
  have J40 : hc_At hc_V0 E 4 X 94 [] [] r38 am [] := by
    obtain rfl := Option.some.inj h
    exact hr_vret hC dX21_readTokens_94
  clear h
  have h := e39
  refine hr_if_eq (x := _) hC 94 dX21_readTokens_79 (by decide) (fun c37 => ?_) (fun c37 => ?_)
  · rw [if_pos c37] at h
    obtain rfl := Option.some.inj h
    exact hr_sub _ rfl (J40)
  · rw [if_neg c37] at h
    refine hr_aload_n hC dX21_readTokens_82 rfl ?_
    refine hr_aload_n hC dX21_readTokens_83 rfl ?_
    refine hr_gI hC F23_8 dX21_readTokens_84 q2850 ?_
    refine hr_iconst (v := 0) hC dX21_readTokens_87 rfl ?_
    refine hr_bipush (v := 7) hC dX21_readTokens_88 rfl ?_
    refine hr_iconst (v := (-1)) hC dX21_readTokens_90 rfl ?_
    obtain ⟨r42, e43, h⟩ := hx_bind h
    refine hs_callV0 hC 23 [_, _, _, _] _ dX21_readTokens_91 q3151 q3153 qs179 q335 q3154 np_X21 rfl OB_23 pd_X21_token (Nat.le_of_ble_eq_true rfl) hd1 (okX21_token l E A (d - 1)  (by omega)  e43 am) rfl ?_
    obtain rfl := Option.some.inj h
    exact hr_sub _ rfl (J40)
/-- HomeCompilerModel.isKey(I)Z -/
def fm_X21_isKey  (x1 : Int32) (σ : hc_St) : Option Int32 := hk (inb ((gI σ 23 15)) (gL σ 23 13)) <| Option.bind (α := Int32) (if (gC σ 23 13 ((gI σ 23 15))).toInt8.toInt32 = 2 then (hk (inb ((gI σ 23 15)) (gL σ 23 14)) <| if (gC σ 23 14 ((gI σ 23 15))) = x1 then (some (1)) else (some (0))) else (some (0))) fun r4 => hk (hb01 r4) <| some r4
set_option maxRecDepth 20000 in
set_option maxHeartbeats 4000000 in
theorem okX21_isKey (l : Launch) (E : hc_E) (A : Nat → Prop) (d : Nat)  (hD : 1 ≤ d) {x1 : Int32} {σ : hc_St} {r : Int32} (h : fm_X21_isKey  x1 σ = some r) (am : Nat → Nat → Nat) : hc_M l hc_V0 yX21_isKey (ws_ yX21_isKey cX21_isKey 2 (some .boolean)) d E A [.ref (E.2.1 23), .int x1] am [] σ (.inl (some (.int r))) σ := by
  have hd1 : 1 ≤ d := by omega
  refine hc_enter2 (own := RX21) [(0, .ref (E.2.1 23)), (1, .int x1)] pl_X21 rfl hc_V0_st hc_G0_nd rfl (Nat.le_of_ble_eq_true rfl) (fun X hC hem => ?_)
  unfold fm_X21_isKey at h
  refine hr_aload_n hC dX21_isKey_0 rfl ?_
  refine hr_gA hC F23_13 rfl dX21_isKey_1 q2855 ?_
  refine hr_aload_n hC dX21_isKey_4 rfl ?_
  refine hr_gI hC F23_15 dX21_isKey_5 q2857 ?_
  obtain ⟨c1, h⟩ := hk_ok h
  refine hs_bald hC A23_13 c1 dX21_isKey_8 ?_
  refine hr_iconst (v := 2) hC dX21_isKey_9 rfl ?_
  obtain ⟨r4, e5, h⟩ := hx_bind h
  have J6 : hc_At hc_V0 E 2 X 31 [] [.int r4] σ am [] := by
    obtain ⟨c11, h⟩ := hk_ok h
    obtain rfl := Option.some.inj h
    exact hr_zret hC (hb01_n c11) dX21_isKey_31
  clear h
  have h := e5
  refine hr_icmp_ne (x := _) hC 30 dX21_isKey_10 (by decide) (fun c3 => ?_) (fun c3 => ?_)
  · rw [if_neg c3] at h
    refine hr_iconst (v := 0) hC dX21_isKey_30 rfl ?_
    obtain rfl := Option.some.inj h
    exact hr_sub _ rfl (J6)
  · rw [if_pos c3] at h
    refine hr_aload_n hC dX21_isKey_13 rfl ?_
    refine hr_gA hC F23_14 rfl dX21_isKey_14 q2856 ?_
    refine hr_aload_n hC dX21_isKey_17 rfl ?_
    refine hr_gI hC F23_15 dX21_isKey_18 q2857 ?_
    obtain ⟨c8, h⟩ := hk_ok h
    refine hs_iald hC A23_14 c8 dX21_isKey_21 ?_
    refine hr_iload_n hC dX21_isKey_22 rfl ?_
    refine hr_icmp_ne (x := _) hC 30 dX21_isKey_23 (by decide) (fun c10 => ?_) (fun c10 => ?_)
    · rw [if_neg c10] at h
      refine hr_iconst (v := 0) hC dX21_isKey_30 rfl ?_
      obtain rfl := Option.some.inj h
      exact hr_sub _ rfl (J6)
    · rw [if_pos c10] at h
      refine hr_iconst (v := 1) hC dX21_isKey_26 rfl ?_
      refine hr_goto hC 31 dX21_isKey_27 (by decide) ?_
      obtain rfl := Option.some.inj h
      exact hr_sub _ rfl (J6)
/-- HomeCompilerModel.make(II)I -/
def fm_X21_make  (x1 : Int32) (x2 : Int32) (σ : hc_St) : Option (Int32 × hc_St) := hk (inb ((gI σ 23 17)) (gL σ 23 18)) <| hl (pC σ 23 18 ((gI σ 23 17)) ((x1.toInt8.toInt32))) fun σ2 => hk (inb ((gI σ2 23 17)) (gL σ2 23 19)) <| hl (pC σ2 23 19 ((gI σ2 23 17)) x2) fun σ4 => hk (inb ((gI σ4 23 17)) (gL σ4 23 20)) <| hl (pC σ4 23 20 ((gI σ4 23 17)) x2) fun σ6 => hk (inb ((gI σ6 23 17)) (gL σ6 23 21)) <| hl (pC σ6 23 21 ((gI σ6 23 17)) ((-1))) fun σ8 => hk (inb ((gI σ8 23 17)) (gL σ8 23 22)) <| hl (pC σ8 23 22 ((gI σ8 23 17)) ((-1))) fun σ10 => hk (inb ((gI σ10 23 17)) (gL σ10 23 23)) <| hl (pC σ10 23 23 ((gI σ10 23 17)) ((-1))) fun σ12 => hk (inb ((gI σ12 23 17)) (gL σ12 23 24)) <| hl (pC σ12 23 24 ((gI σ12 23 17)) ((-1))) fun σ14 => hk (inb ((gI σ14 23 17)) (gL σ14 23 25)) <| hl (pC σ14 23 25 ((gI σ14 23 17)) ((-1))) fun σ16 => hk (inb ((gI σ16 23 17)) (gL σ16 23 26)) <| hl (pC σ16 23 26 ((gI σ16 23 17)) ((-1))) fun σ18 => hk (inb ((gI σ18 23 17)) (gL σ18 23 27)) <| hl (pC σ18 23 27 ((gI σ18 23 17)) 1) fun σ20 => hl (pI σ20 23 17 ((((gI σ20 23 17)) + 1))) fun σ21 => some ((((gI σ21 23 17)) - 1), σ21)
set_option maxRecDepth 20000 in
set_option maxHeartbeats 4000000 in
theorem okX21_make (l : Launch) (E : hc_E) (A : Nat → Prop) (d : Nat)  (hD : 1 ≤ d) {x1 : Int32} {x2 : Int32} {σ : hc_St} {r : (Int32 × hc_St)} (h : fm_X21_make  x1 x2 σ = some r) (am : Nat → Nat → Nat) : hc_M l hc_V0 yX21_make (ws_ yX21_make cX21_make 3 (some .int)) d E A [.ref (E.2.1 23), .int x1, .int x2] am [] σ (.inl (some (.int r.1))) r.2 := by
  have hd1 : 1 ≤ d := by omega
  refine hc_enter2 (own := RX21) [(0, .ref (E.2.1 23)), (1, .int x1), (2, .int x2)] pl_X21 rfl hc_V0_st hc_G0_nd rfl (Nat.le_of_ble_eq_true rfl) (fun X hC hem => ?_)
  unfold fm_X21_make at h
  refine hr_aload_n hC dX21_make_0 rfl ?_
  refine hr_gA hC F23_18 rfl dX21_make_1 q2860 ?_
  refine hr_aload_n hC dX21_make_4 rfl ?_
  refine hr_gI hC F23_17 dX21_make_5 q2859 ?_
  refine hr_iload_n hC dX21_make_8 rfl ?_
  refine hr_i2b hC dX21_make_9 ?_
  obtain ⟨c1, h⟩ := hk_ok h
  obtain ⟨σ2, hσ2, h⟩ := hl_ok h
  refine hs_bast hC A23_18 c1 dX21_make_10 ?_
  rw [← hσ2]
  refine hr_aload_n hC dX21_make_11 rfl ?_
  refine hr_gA hC F23_19 rfl dX21_make_12 q2861 ?_
  refine hr_aload_n hC dX21_make_15 rfl ?_
  refine hr_gI hC F23_17 dX21_make_16 q2859 ?_
  refine hr_iload_n hC dX21_make_19 rfl ?_
  obtain ⟨c3, h⟩ := hk_ok h
  obtain ⟨σ4, hσ4, h⟩ := hl_ok h
  refine hs_iast hC A23_19 c3 dX21_make_20 ?_
  rw [← hσ4]
  refine hr_aload_n hC dX21_make_21 rfl ?_
  refine hr_gA hC F23_20 rfl dX21_make_22 q2862 ?_
  refine hr_aload_n hC dX21_make_25 rfl ?_
  refine hr_gI hC F23_17 dX21_make_26 q2859 ?_
  refine hr_iload_n hC dX21_make_29 rfl ?_
  obtain ⟨c5, h⟩ := hk_ok h
  obtain ⟨σ6, hσ6, h⟩ := hl_ok h
  refine hs_iast hC A23_20 c5 dX21_make_30 ?_
  rw [← hσ6]
  refine hr_aload_n hC dX21_make_31 rfl ?_
  refine hr_gA hC F23_21 rfl dX21_make_32 q2863 ?_
  refine hr_aload_n hC dX21_make_35 rfl ?_
  refine hr_gI hC F23_17 dX21_make_36 q2859 ?_
  refine hr_iconst (v := (-1)) hC dX21_make_39 rfl ?_
  obtain ⟨c7, h⟩ := hk_ok h
  obtain ⟨σ8, hσ8, h⟩ := hl_ok h
  refine hs_iast hC A23_21 c7 dX21_make_40 ?_
  rw [← hσ8]
  refine hr_aload_n hC dX21_make_41 rfl ?_
  refine hr_gA hC F23_22 rfl dX21_make_42 q2864 ?_
  refine hr_aload_n hC dX21_make_45 rfl ?_
  refine hr_gI hC F23_17 dX21_make_46 q2859 ?_
  refine hr_iconst (v := (-1)) hC dX21_make_49 rfl ?_
  obtain ⟨c9, h⟩ := hk_ok h
  obtain ⟨σ10, hσ10, h⟩ := hl_ok h
  refine hs_iast hC A23_22 c9 dX21_make_50 ?_
  rw [← hσ10]
  refine hr_aload_n hC dX21_make_51 rfl ?_
  refine hr_gA hC F23_23 rfl dX21_make_52 q2865 ?_
  refine hr_aload_n hC dX21_make_55 rfl ?_
  refine hr_gI hC F23_17 dX21_make_56 q2859 ?_
  refine hr_iconst (v := (-1)) hC dX21_make_59 rfl ?_
  obtain ⟨c11, h⟩ := hk_ok h
  obtain ⟨σ12, hσ12, h⟩ := hl_ok h
  refine hs_iast hC A23_23 c11 dX21_make_60 ?_
  rw [← hσ12]
  refine hr_aload_n hC dX21_make_61 rfl ?_
  refine hr_gA hC F23_24 rfl dX21_make_62 q2866 ?_
  refine hr_aload_n hC dX21_make_65 rfl ?_
  refine hr_gI hC F23_17 dX21_make_66 q2859 ?_
  refine hr_iconst (v := (-1)) hC dX21_make_69 rfl ?_
  obtain ⟨c13, h⟩ := hk_ok h
  obtain ⟨σ14, hσ14, h⟩ := hl_ok h
  refine hs_iast hC A23_24 c13 dX21_make_70 ?_
  rw [← hσ14]
  refine hr_aload_n hC dX21_make_71 rfl ?_
  refine hr_gA hC F23_25 rfl dX21_make_72 q2867 ?_
  refine hr_aload_n hC dX21_make_75 rfl ?_
  refine hr_gI hC F23_17 dX21_make_76 q2859 ?_
  refine hr_iconst (v := (-1)) hC dX21_make_79 rfl ?_
  obtain ⟨c15, h⟩ := hk_ok h
  obtain ⟨σ16, hσ16, h⟩ := hl_ok h
  refine hs_iast hC A23_25 c15 dX21_make_80 ?_
  rw [← hσ16]
  refine hr_aload_n hC dX21_make_81 rfl ?_
  refine hr_gA hC F23_26 rfl dX21_make_82 q2868 ?_
  refine hr_aload_n hC dX21_make_85 rfl ?_
  refine hr_gI hC F23_17 dX21_make_86 q2859 ?_
  refine hr_iconst (v := (-1)) hC dX21_make_89 rfl ?_
  obtain ⟨c17, h⟩ := hk_ok h
  obtain ⟨σ18, hσ18, h⟩ := hl_ok h
  refine hs_iast hC A23_26 c17 dX21_make_90 ?_
  rw [← hσ18]
  refine hr_aload_n hC dX21_make_91 rfl ?_
  refine hr_gA hC F23_27 rfl dX21_make_92 q2869 ?_
  refine hr_aload_n hC dX21_make_95 rfl ?_
  refine hr_gI hC F23_17 dX21_make_96 q2859 ?_
  refine hr_iconst (v := 1) hC dX21_make_99 rfl ?_
  obtain ⟨c19, h⟩ := hk_ok h
  obtain ⟨σ20, hσ20, h⟩ := hl_ok h
  refine hs_iast hC A23_27 c19 dX21_make_100 ?_
  rw [← hσ20]
  refine hr_aload_n hC dX21_make_101 rfl ?_
  refine hr_dup hC dX21_make_102 rfl ?_
  refine hr_gI hC F23_17 dX21_make_103 q2859 ?_
  refine hr_iconst (v := 1) hC dX21_make_106 rfl ?_
  refine hr_iadd hC dX21_make_107 ?_
  obtain ⟨σ21, hσ21, h⟩ := hl_ok h
  refine hr_pI hC F23_17 PX21_17 dX21_make_108 q2859 ?_
  rw [← hσ21]
  refine hr_aload_n hC dX21_make_111 rfl ?_
  refine hr_gI hC F23_17 dX21_make_112 q2859 ?_
  refine hr_iconst (v := 1) hC dX21_make_115 rfl ?_
  refine hr_isub hC dX21_make_116 ?_
  obtain rfl := Option.some.inj h
  exact hr_iret hC dX21_make_117
/-- HomeCompilerModel.isAt(ILjava/lang/String;)Z -/
def fm_X21_isAt  (x1 : Int32) (x2 : Int32) (σ : hc_St) : Option Int32 := hk (inb x1 (gL σ 23 13)) <| Option.bind (α := Int32) (if (gC σ 23 13 x1).toInt8.toInt32 = 5 then (hk (inb x1 (gL σ 23 14)) <| hk (inb ((gC σ 23 14 x1)) (gL σ 23 1)) <| hk (hsi ((gC σ 23 1 ((gC σ 23 14 x1)))) && hsi x2) <| if (sEq ((gC σ 23 1 ((gC σ 23 14 x1)))) x2) = 0 then (some (0)) else (some (1))) else (some (0))) fun r4 => hk (hb01 r4) <| some r4
set_option maxRecDepth 20000 in
set_option maxHeartbeats 4000000 in
theorem okX21_isAt (l : Launch) (E : hc_E) (A : Nat → Prop) (d : Nat)  (hD : 9 ≤ d) {x1 : Int32} {x2 : Int32} {σ : hc_St} {r : Int32} (h : fm_X21_isAt  x1 x2 σ = some r) (am : Nat → Nat → Nat) : hc_M l hc_V0 yX21_isAt (ws_ yX21_isAt cX21_isAt 3 (some .boolean)) d E A [.ref (E.2.1 23), .int x1, .ref (E.2.2.2.1 (x2 : Int32).toNatClampNeg)] am [] σ (.inl (some (.int r))) σ := by
  have hd1 : 1 ≤ d := by omega
  have hd8 : 9 ≤ d := by omega
  refine hc_enter2 (own := RX21) [(0, .ref (E.2.1 23)), (1, .int x1), (2, .ref (E.2.2.2.1 (x2 : Int32).toNatClampNeg))] pl_X21 rfl hc_V0_st hc_G0_nd rfl (Nat.le_of_ble_eq_true rfl) (fun X hC hem => ?_)
  unfold fm_X21_isAt at h
  refine hr_aload_n hC dX21_isAt_0 rfl ?_
  refine hr_gA hC F23_13 rfl dX21_isAt_1 q2855 ?_
  refine hr_iload_n hC dX21_isAt_4 rfl ?_
  obtain ⟨c1, h⟩ := hk_ok h
  refine hs_bald hC A23_13 c1 dX21_isAt_5 ?_
  refine hr_iconst (v := 5) hC dX21_isAt_6 rfl ?_
  obtain ⟨r4, e5, h⟩ := hx_bind h
  have J6 : hc_At hc_V0 E 3 X 33 [] [.int r4] σ am [] := by
    obtain ⟨c13, h⟩ := hk_ok h
    obtain rfl := Option.some.inj h
    exact hr_zret hC (hb01_n c13) dX21_isAt_33
  clear h
  have h := e5
  refine hr_icmp_ne (x := _) hC 32 dX21_isAt_7 (by decide) (fun c3 => ?_) (fun c3 => ?_)
  · rw [if_neg c3] at h
    refine hr_iconst (v := 0) hC dX21_isAt_32 rfl ?_
    obtain rfl := Option.some.inj h
    exact hr_sub _ rfl (J6)
  · rw [if_pos c3] at h
    refine hr_aload_n hC dX21_isAt_10 rfl ?_
    refine hr_gA hC F23_1 rfl dX21_isAt_11 q2843 ?_
    refine hr_aload_n hC dX21_isAt_14 rfl ?_
    refine hr_gA hC F23_14 rfl dX21_isAt_15 q2856 ?_
    refine hr_iload_n hC dX21_isAt_18 rfl ?_
    obtain ⟨c8, h⟩ := hk_ok h
    refine hs_iald hC A23_14 c8 dX21_isAt_19 ?_
    obtain ⟨c9, h⟩ := hk_ok h
    refine hs_sald hC A23_1 c9 dX21_isAt_20 ?_
    refine hr_aload_n hC dX21_isAt_21 rfl ?_
    obtain ⟨c10, h⟩ := hk_ok h
    refine hr_seq hC c10 dX21_isAt_22 q3210 hd8 (Nat.le_of_ble_eq_true rfl) ?_
    refine hr_if_eq (x := _) hC 32 dX21_isAt_25 (by decide) (fun c12 => ?_) (fun c12 => ?_)
    · rw [if_pos c12] at h
      refine hr_iconst (v := 0) hC dX21_isAt_32 rfl ?_
      obtain rfl := Option.some.inj h
      exact hr_sub _ rfl (J6)
    · rw [if_neg c12] at h
      refine hr_iconst (v := 1) hC dX21_isAt_28 rfl ?_
      refine hr_goto hC 33 dX21_isAt_29 (by decide) ?_
      obtain rfl := Option.some.inj h
      exact hr_sub _ rfl (J6)
/-- HomeCompilerModel.is(Ljava/lang/String;)Z -/
def fm_X21_is  (x1 : Int32) (σ : hc_St) : Option Int32 := Option.bind (fm_X21_isAt ((gI σ 23 15)) x1 σ) fun r1 => hk (hb01 r1) <| some r1
set_option maxRecDepth 20000 in
set_option maxHeartbeats 4000000 in
theorem okX21_is (l : Launch) (E : hc_E) (A : Nat → Prop) (d : Nat)  (hD : 10 ≤ d) {x1 : Int32} {σ : hc_St} {r : Int32} (h : fm_X21_is  x1 σ = some r) (am : Nat → Nat → Nat) : hc_M l hc_V0 yX21_is (ws_ yX21_is cX21_is 2 (some .boolean)) d E A [.ref (E.2.1 23), .ref (E.2.2.2.1 (x1 : Int32).toNatClampNeg)] am [] σ (.inl (some (.int r))) σ := by
  have hd1 : 1 ≤ d := by omega
  have hd8 : 9 ≤ d := by omega
  refine hc_enter2 (own := RX21) [(0, .ref (E.2.1 23)), (1, .ref (E.2.2.2.1 (x1 : Int32).toNatClampNeg))] pl_X21 rfl hc_V0_st hc_G0_nd rfl (Nat.le_of_ble_eq_true rfl) (fun X hC hem => ?_)
  unfold fm_X21_is at h
  refine hr_aload_n hC dX21_is_0 rfl ?_
  refine hr_aload_n hC dX21_is_1 rfl ?_
  refine hr_gI hC F23_15 dX21_is_2 q2857 ?_
  refine hr_aload_n hC dX21_is_5 rfl ?_
  obtain ⟨r1, e2, h⟩ := hx_bind h
  refine hs_callV0 hC 23 [_, _] _ dX21_is_6 q3206 q3208 qs191 q335 q3209 np_X21 rfl OB_23 pd_X21_isAt (Nat.le_of_ble_eq_true rfl) hd1 (okX21_isAt l E A (d - 1)  (by omega)  e2 am) rfl ?_
  obtain ⟨c5, h⟩ := hk_ok h
  obtain rfl := Option.some.inj h
  exact hr_zret hC (hb01_n c5) dX21_is_9
/-- HomeCompilerModel.need(Z)V -/
def fm_X21_need  (x1 : Int32) (σ : hc_St) : Option (Nat × Int32 × hc_St) := if x1 = 0 then (hk (hxr σ) <| some (1, 0, pU σ hxC hxS)) else (some (0, 0, σ))
theorem oknX21_need (l : Launch) (E : hc_E) (A : Nat → Prop) (d : Nat) (hD : 13 ≤ d) {x1 : Int32} {σ : hc_St} {r : Nat × Int32 × hc_St} (h : fm_X21_need x1 σ = some r) (am : Nat → Nat → Nat) : hc_N0 l yX21_need (ws_ yX21_need cX21_need 2 none) d E A [.ref (E.2.1 23), .int x1] am σ (hc_ot (fun v => none) r) r.2.2 :=
  hx_need (k := 1) [(0, .ref (E.2.1 23)), (1, .int x1)] hD pl_X21 rfl rfl (Nat.le_of_ble_eq_true rfl) rfl q3177 q1271 q341 (fun h1 h2 => hx_at1 h1 h2 q3222) (by decide +kernel) (by decide) dX21_need_0 dX21_need_1 dX21_need_4 dX21_need_7 dX21_need_8 dX21_need_11 dX21_need_12 h am
theorem okX21_need (l : Launch) (E : hc_E) (A : Nat → Prop) (d : Nat) (hD : 13 ≤ d) {x1 : Int32} {σ : hc_St} {r : Nat × Int32 × hc_St} (h : fm_X21_need x1 σ = some r) (am : Nat → Nat → Nat) : hc_M l hc_V0 yX21_need (ws_ yX21_need cX21_need 2 none) d E A [.ref (E.2.1 23), .int x1] am [] σ (hc_ot (fun v => none) r) r.2.2 := (oknX21_need l E A d hD h am).M
/-- HomeCompilerModel.opens()V -/
def fm_X21_opens   (σ : hc_St) : Option (Nat × Int32 × hc_St) := hl (α := Int32) ((if 60 ≤ (gI σ 23 16) then 0 else 1)) fun v3 => Option.bind (fm_X21_need v3 σ) fun r4 => ht r4 <| hl (pI r4.2.2 23 16 ((((gI r4.2.2 23 16)) + 1))) fun σ9 => hl (pI σ9 23 15 ((((gI σ9 23 15)) + 1))) fun σ10 => some (0, 0, σ10)
set_option maxRecDepth 20000 in
set_option maxHeartbeats 4000000 in
theorem okX21_opens (l : Launch) (E : hc_E) (A : Nat → Prop) (d : Nat)  (hD : 14 ≤ d)  {σ : hc_St} {r : (Nat × Int32 × hc_St)} (h : fm_X21_opens   σ = some r) (am : Nat → Nat → Nat) : hc_M l hc_V0 yX21_opens (ws_ yX21_opens cX21_opens 1 none) d E A [.ref (E.2.1 23)] am [] σ (hc_ot (fun v => none) r) r.2.2 := by
  have hd1 : 1 ≤ d := by omega
  have hd8 : 9 ≤ d := by omega
  have hd12 : 12 ≤ d := by omega
  refine hc_enter2 (own := RX21) [(0, .ref (E.2.1 23))] pl_X21 rfl hc_V0_st hc_G0_nd rfl (Nat.le_of_ble_eq_true rfl) (fun X hC hem => ?_)
  have HX := fun z => hc_CX hC z
  unfold fm_X21_opens at h
  refine hr_aload_n hC dX21_opens_0 rfl ?_
  refine hr_aload_n hC dX21_opens_1 rfl ?_
  refine hr_gI hC F23_16 dX21_opens_2 q2858 ?_
  refine hr_bipush (v := 60) hC dX21_opens_5 rfl ?_
  obtain ⟨v3, hv3, h⟩ := hl_ok h
  have J11 : ∀ w12 : Int32, (if 60 ≤ (gI σ 23 16) then 0 else 1) = w12 → hc_At hc_V0 E 1 X 15 [(0, .ref (E.2.1 23))] [.int w12, .ref (E.2.1 23)] σ am [] := by
    intro w12 hw12
    obtain rfl := hv3.trans hw12
    obtain ⟨r4, e5, h⟩ := hx_bind h
    by_cases z8 : r4.1 = 0
    · rw [ht_0 z8] at h
      refine hs_callV0 hC 23 [_] _ dX21_opens_15 q3218 q3220 qs192 q335 q3221 np_X21 rfl OB_23 pd_X21_need (Nat.le_of_ble_eq_true rfl) hd1 (hc_M0 (r := r4) (okX21_need l E A (d - 1)  (by omega)  e5 am) z8) rfl ?_
      refine hr_aload_n hC dX21_opens_18 rfl ?_
      refine hr_dup hC dX21_opens_19 rfl ?_
      refine hr_gI hC F23_16 dX21_opens_20 q2858 ?_
      refine hr_iconst (v := 1) hC dX21_opens_23 rfl ?_
      refine hr_iadd hC dX21_opens_24 ?_
      obtain ⟨σ9, hσ9, h⟩ := hl_ok h
      refine hr_pI hC F23_16 PX21_16 dX21_opens_25 q2858 ?_
      rw [← hσ9]
      refine hr_aload_n hC dX21_opens_28 rfl ?_
      refine hr_dup hC dX21_opens_29 rfl ?_
      refine hr_gI hC F23_15 dX21_opens_30 q2857 ?_
      refine hr_iconst (v := 1) hC dX21_opens_33 rfl ?_
      refine hr_iadd hC dX21_opens_34 ?_
      obtain ⟨σ10, hσ10, h⟩ := hl_ok h
      refine hr_pI hC F23_15 PX21_15 dX21_opens_35 q2857 ?_
      rw [← hσ10]
      obtain rfl := Option.some.inj h
      exact hr_vret hC dX21_opens_38
    · rw [ht_1 z8] at h
      obtain rfl := Option.some.inj h
      exact hs_callVx (HX z8) hem 23 [_] _ dX21_opens_15 q3218 q3220 qs192 q335 q3221 np_X21 rfl OB_23 pd_X21_need (Nat.le_of_ble_eq_true rfl) hd1 (hc_M1 (r := r4) (okX21_need l E A (d - 1)  (by omega)  e5 am) z8) (hc_rb rfl) rfl
  refine hr_icmp_ge (x := _) hC 14 dX21_opens_7 (by decide) (fun c13 => ?_) (fun c13 => ?_)
  · refine hr_iconst (v := 0) hC dX21_opens_14 rfl ?_
    exact hr_sub _ rfl (J11 _ (by first | (rw [if_pos c13]; done) | (simp only [if_pos c13]; done) | rfl))
  · refine hr_iconst (v := 1) hC dX21_opens_10 rfl ?_
    refine hr_goto hC 15 dX21_opens_11 (by decide) ?_
    exact hr_sub _ rfl (J11 _ (by first | (rw [if_neg c13]; done) | (simp only [if_neg c13]; done) | rfl))
/-- HomeCompilerModel.opensMark(Ljava/lang/String;)V -/
def fm_X21_opensMark  (x1 : Int32) (σ : hc_St) : Option (Nat × Int32 × hc_St) := Option.bind (fm_X21_is x1 σ) fun r1 => Option.bind (fm_X21_need r1 σ) fun r5 => ht r5 <| Option.bind (fm_X21_opens  r5.2.2) fun r10 => ht r10 <| some (0, 0, r10.2.2)
set_option maxRecDepth 20000 in
set_option maxHeartbeats 4000000 in
theorem okX21_opensMark (l : Launch) (E : hc_E) (A : Nat → Prop) (d : Nat)  (hD : 15 ≤ d) {x1 : Int32} {σ : hc_St} {r : (Nat × Int32 × hc_St)} (h : fm_X21_opensMark  x1 σ = some r) (am : Nat → Nat → Nat) : hc_M l hc_V0 yX21_opensMark (ws_ yX21_opensMark cX21_opensMark 2 none) d E A [.ref (E.2.1 23), .ref (E.2.2.2.1 (x1 : Int32).toNatClampNeg)] am [] σ (hc_ot (fun v => none) r) r.2.2 := by
  have hd1 : 1 ≤ d := by omega
  have hd8 : 9 ≤ d := by omega
  have hd12 : 12 ≤ d := by omega
  refine hc_enter2 (own := RX21) [(0, .ref (E.2.1 23)), (1, .ref (E.2.2.2.1 (x1 : Int32).toNatClampNeg))] pl_X21 rfl hc_V0_st hc_G0_nd rfl (Nat.le_of_ble_eq_true rfl) (fun X hC hem => ?_)
  have HX := fun z => hc_CX hC z
  unfold fm_X21_opensMark at h
  refine hr_aload_n hC dX21_opensMark_0 rfl ?_
  refine hr_aload_n hC dX21_opensMark_1 rfl ?_
  refine hr_aload_n hC dX21_opensMark_2 rfl ?_
  obtain ⟨r1, e2, h⟩ := hx_bind h
  refine hs_callV0 hC 23 [_] _ dX21_opensMark_3 q3202 q3204 qs190 q335 q3205 np_X21 rfl OB_23 pd_X21_is (Nat.le_of_ble_eq_true rfl) hd1 (okX21_is l E A (d - 1)  (by omega)  e2 am) rfl ?_
  obtain ⟨r5, e6, h⟩ := hx_bind h
  by_cases z9 : r5.1 = 0
  · rw [ht_0 z9] at h
    refine hs_callV0 hC 23 [_] _ dX21_opensMark_6 q3218 q3220 qs192 q335 q3221 np_X21 rfl OB_23 pd_X21_need (Nat.le_of_ble_eq_true rfl) hd1 (hc_M0 (r := r5) (okX21_need l E A (d - 1)  (by omega)  e6 am) z9) rfl ?_
    refine hr_aload_n hC dX21_opensMark_9 rfl ?_
    obtain ⟨r10, e11, h⟩ := hx_bind h
    by_cases z14 : r10.1 = 0
    · rw [ht_0 z14] at h
      refine hs_callV0 hC 23 [] _ dX21_opensMark_10 q3223 q3225 qs193 q335 q3226 np_X21 rfl OB_23 pd_X21_opens (Nat.le_of_ble_eq_true rfl) hd1 (hc_M0 (r := r10) (okX21_opens l E A (d - 1)  (by omega)  e11 am) z14) rfl ?_
      obtain rfl := Option.some.inj h
      exact hr_vret hC dX21_opensMark_13
    · rw [ht_1 z14] at h
      obtain rfl := Option.some.inj h
      exact hs_callVx (HX z14) hem 23 [] _ dX21_opensMark_10 q3223 q3225 qs193 q335 q3226 np_X21 rfl OB_23 pd_X21_opens (Nat.le_of_ble_eq_true rfl) hd1 (hc_M1 (r := r10) (okX21_opens l E A (d - 1)  (by omega)  e11 am) z14) (hc_rb rfl) rfl
  · rw [ht_1 z9] at h
    obtain rfl := Option.some.inj h
    exact hs_callVx (HX z9) hem 23 [_] _ dX21_opensMark_6 q3218 q3220 qs192 q335 q3221 np_X21 rfl OB_23 pd_X21_need (Nat.le_of_ble_eq_true rfl) hd1 (hc_M1 (r := r5) (okX21_need l E A (d - 1)  (by omega)  e6 am) z9) (hc_rb rfl) rfl
