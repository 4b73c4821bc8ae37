set_option maxRecDepth 20000
/-- HomeCompiler$Bytes.size()I -/
def fm_X4_size  (o : Nat) (σ : hc_St) : Option Int32 := some ((gI σ o 1))
set_option maxRecDepth 20000 in
set_option maxHeartbeats 4000000 in
theorem okX4_size (l : Launch) (E : hc_E) (A : Nat → Prop) (d : Nat)  (hD : 1 ≤ d) {o : Nat} (ho : hc_by o)  {σ : hc_St} {r : Int32} (h : fm_X4_size  o σ = some r) (am : Nat → Nat → Nat) : hc_M l hc_V0 yX4_size (ws_ yX4_size cX4_size 1 (some .int)) d E A [.ref (E.2.1 o)] am [] σ (.inl (some (.int r))) σ := by
  have hd1 : 1 ≤ d := by omega
  refine hc_enter2 (own := RX4) [(0, .ref (E.2.1 o))] pl_X4 rfl hc_V0_st hc_G0_nd rfl (Nat.le_of_ble_eq_true rfl) (fun X hC hem => ?_)
  unfold fm_X4_size at h
  refine hr_aload_n hC dX4_size_0 rfl ?_
  refine hr_gI hC (FB_1 ho) dX4_size_1 q430 ?_
  obtain rfl := Option.some.inj h
  exact hr_iret hC dX4_size_4
/-- HomeCompiler.ready(Z)V -/
def fm_X1_ready  (x0 : Int32) (σ : hc_St) : Option (Nat × Int32 × hc_St) := if x0 = 0 then (hk (hxr σ) <| some (2, 0, pU σ hxC hxS)) else (some (0, 0, σ))
theorem oknX1_ready (l : Launch) (E : hc_E) (A : Nat → Prop) (d : Nat) (hD : 13 ≤ d) {x0 : Int32} {σ : hc_St} {r : Nat × Int32 × hc_St} (h : fm_X1_ready x0 σ = some r) (am : Nat → Nat → Nat) : hc_N0 l yX1_ready (ws_ yX1_ready cX1_ready 1 none) d E A [.int x0] am σ (hc_ot (fun v => none) r) r.2.2 :=
  hx_need (k := 2) [(0, .int x0)] hD pl_X1 rfl rfl (Nat.le_of_ble_eq_true rfl) rfl q2381 q2382 q339 (fun h1 h2 => hx_at2 h1 h2 q2390) (by decide +kernel) (by decide) dX1_ready_0 dX1_ready_1 dX1_ready_4 dX1_ready_7 dX1_ready_8 dX1_ready_11 dX1_ready_12 h am
theorem okX1_ready (l : Launch) (E : hc_E) (A : Nat → Prop) (d : Nat) (hD : 13 ≤ d) {x0 : Int32} {σ : hc_St} {r : Nat × Int32 × hc_St} (h : fm_X1_ready x0 σ = some r) (am : Nat → Nat → Nat) : hc_M l hc_V0 yX1_ready (ws_ yX1_ready cX1_ready 1 none) d E A [.int x0] am [] σ (hc_ot (fun v => none) r) r.2.2 := (oknX1_ready l E A d hD h am).M
/-- HomeCompiler$Bytes.add(I)V -/
def fm_X4_add  (o : Nat) (x1 : Int32) (σ : hc_St) : Option hc_St := Option.bind (α := hc_St) (if (gI σ o 1) = (nI (gL σ o 0)) then (hk (hna ((2 * ((gI σ o 1)))) σ) <| hl (pU σ 1 ((2 * ((gI σ o 1)))).toNatClampNeg) fun σ9 => hk (hcp ((gI σ9 o 1)) (gL σ9 o 0) (((2 * ((gI σ o 1)))).toNatClampNeg)) <| hl (pA σ9 o 0 (((2 * ((gI σ o 1)))).toNatClampNeg) (va_cpy (σ9.2.2.1 o 0) (fun _ => 0) 0 0 ((gI σ9 o 1)).toNatClampNeg)) fun σ11 => some (σ11)) else (some (σ))) fun r3 => hl (pI r3 o 1 ((((gI r3 o 1)) + 1))) fun σ13 => hk (inb ((gI r3 o 1)) (gL σ13 o 0)) <| hl (pC σ13 o 0 ((gI r3 o 1)) ((x1.toInt8.toInt32))) fun σ15 => some σ15
set_option maxRecDepth 20000 in
set_option maxHeartbeats 4000000 in
theorem okX4_add (l : Launch) (E : hc_E) (A : Nat → Prop) (d : Nat)  (hD : 2 ≤ d) {o : Nat} (ho : hc_by o) {x1 : Int32} {σ : hc_St} {r : hc_St} (h : fm_X4_add  o x1 σ = some r) (am : Nat → Nat → Nat) : hc_M l hc_V0 yX4_add (ws_ yX4_add cX4_add 3 none) d E A [.ref (E.2.1 o), .int x1] am [3, 4, 12, 22] σ (.inl none) r := by
  have hd1 : 1 ≤ d := by omega
  refine hc_enter2 (own := RX4) [(0, .ref (E.2.1 o)), (1, .int x1)] pl_X4 rfl hc_V0_st hc_G0_nd rfl (Nat.le_of_ble_eq_true rfl) (fun X hC hem => ?_)
  unfold fm_X4_add at h
  refine hr_aload_n hC dX4_add_0 rfl ?_
  refine hr_gI hC (FB_1 ho) dX4_add_1 q430 ?_
  refine hr_aload_n hC dX4_add_4 rfl ?_
  refine hr_gA hC (FB_0 ho) rfl dX4_add_5 q429 ?_
  refine hs_alen2 hC (AB_0 ho) dX4_add_8 ?_
  obtain ⟨r3, e4, h⟩ := hx_bind h
  have J5 : ∀ am12, hc_At hc_V0 E 3 X 40 [(0, .ref (E.2.1 o)), (1, .int x1)] [] r3 am12 [] := by
    intro am12
    refine hr_aload_n hC dX4_add_40 rfl ?_
    refine hr_gA hC (FB_0 ho) rfl dX4_add_41 q429 ?_
    refine hr_aload_n hC dX4_add_44 rfl ?_
    refine hr_dup hC dX4_add_45 rfl ?_
    refine hr_gI hC (FB_1 ho) dX4_add_46 q430 ?_
    refine hr_dup_x1 hC dX4_add_49 rfl rfl ?_
    refine hr_iconst (v := 1) hC dX4_add_50 rfl ?_
    refine hr_iadd hC dX4_add_51 ?_
    obtain ⟨σ13, hσ13, h⟩ := hl_ok h
    refine hr_pI hC (FB_1 ho) PX4_1 dX4_add_52 q430 ?_
    rw [← hσ13]
    refine hr_iload_n hC dX4_add_55 rfl ?_
    refine hr_i2b hC dX4_add_56 ?_
    obtain ⟨c14, h⟩ := hk_ok h
    obtain ⟨σ15, hσ15, h⟩ := hl_ok h
    refine hs_bast hC (AB_0 ho) c14 dX4_add_57 ?_
    rw [← hσ15]
    obtain rfl := Option.some.inj h
    exact hr_vret hC dX4_add_58
  clear h
  have h := e4
  refine hr_icmp_ne (x := _) hC 40 dX4_add_9 (by decide) (fun c2 => ?_) (fun c2 => ?_)
  · rw [if_neg c2] at h
    obtain rfl := Option.some.inj h
    exact hr_sub _ rfl (J5 am)
  · rw [if_pos c2] at h
    refine hr_iconst (v := 2) hC dX4_add_12 rfl ?_
    refine hr_aload_n hC dX4_add_13 rfl ?_
    refine hr_gI hC (FB_1 ho) dX4_add_14 q430 ?_
    refine hr_imul hC dX4_add_17 ?_
    obtain ⟨c7, h⟩ := hk_ok h
    obtain ⟨σ9, hσ9, h⟩ := hl_ok h
    refine hs_newB hC dX4_add_18 c7 (fun q8 => ?_)
    rw [← hσ9]
    refine hr_astore_n hC dX4_add_20 (by decide) ?_
    refine hr_aload_n hC dX4_add_21 rfl ?_
    refine hr_gA hC (FB_0 ho) rfl dX4_add_22 q429 ?_
    refine hr_iconst (v := 0) hC dX4_add_25 rfl ?_
    refine hr_aload_n hC dX4_add_26 rfl ?_
    refine hr_iconst (v := 0) hC dX4_add_27 rfl ?_
    refine hr_aload_n hC dX4_add_28 rfl ?_
    refine hr_gI hC (FB_1 ho) dX4_add_29 q430 ?_
    obtain ⟨c10, h⟩ := hk_ok h
    refine hr_copy2 hC (AB_0 ho) c10 dX4_add_32 q1190 hd1 (Nat.le_of_ble_eq_true rfl) ?_
    refine hr_aload_n hC dX4_add_35 rfl ?_
    refine hr_aload_n hC dX4_add_36 rfl ?_
    obtain ⟨σ11, hσ11, h⟩ := hl_ok h
    refine hr_pA hC (FB_0 ho) rfl (AB_0 ho) PX4_0 (hc_by_in ho) dX4_add_37 q429 ?_
    rw [← hσ11]
    obtain rfl := Option.some.inj h
    exact hr_sub _ rfl (J5 ((hc_up2 am o 0 q8)))
def lp_X1_feedInt_3 (n : Nat) : Nat → Int32 → Int32 → hc_St → Option (hc_St)
  | 0, _, _, _ => none
  | m + 1, y1, y2, σ => if y2 < 0 then (some (σ)) else (Option.bind (fm_X4_add 22 ((jush y1 y2)) σ) fun r3 => lp_X1_feedInt_3 n m y1 ((y2 + (-8))) r3)
/-- HomeCompiler.feedInt(I)V -/
def fm_X1_feedInt (n : Nat) (x1 : Int32) (σ : hc_St) : Option hc_St := Option.bind (lp_X1_feedInt_3 n n x1 24 σ) fun r7 => some r7
set_option maxRecDepth 20000 in
set_option maxHeartbeats 4000000 in
theorem ll_X1_feedInt_3 {l : Launch} {E : hc_E} {A : Nat → Prop} {am : Nat → Nat → Nat} {d : Nat} {X : hc_X} (n : Nat) (hD : 3 ≤ d) (hem : X.2.2.2.2.2.2.2.2.2.1.exceptionTable.isEmpty = true) {oc : hc_Oc} {σe : hc_St} (hC : hc_C hc_V0 E cX1_feedInt 3 RX1 none d oc σe (l, A, am, [3, 4, 12, 22]) X) : ∀ (m : Nat) (σ : hc_St) (y1 : Int32) (y2 : Int32) (rl : hc_St), lp_X1_feedInt_3 n m y1 y2 σ = some rl → (∀ am1, hc_At hc_V0 E 3 X 23 [] [] rl am1 []) → ∀ am1, hc_At hc_V0 E 3 X 3 [(0, .ref (E.2.1 0)), (1, .int y1), (2, .int y2)] [] σ am1 [] := by
  have hd1 : 1 ≤ d := by omega
  intro m
  induction m with
  | zero =>
    intro σ y1 y2 rl h
    cases h
  | succ m ih =>
    intro σ y1 y2 rl h JX am1
    rw [lp_X1_feedInt_3] at h
    refine hr_iload_n hC dX1_feedInt_3 rfl ?_
    refine hr_if_lt (x := _) hC 23 dX1_feedInt_4 (by decide) (fun c2 => ?_) (fun c2 => ?_)
    · rw [if_pos c2] at h
      obtain rfl := Option.some.inj h
      exact hr_sub _ rfl (JX am1)
    · rw [if_neg c2] at h
      refine hr_aload_n hC dX1_feedInt_7 rfl ?_
      refine hr_gO 22 hC F0_10 rfl dX1_feedInt_8 q1001 ?_
      refine hr_iload_n hC dX1_feedInt_11 rfl ?_
      refine hr_iload_n hC dX1_feedInt_12 rfl ?_
      refine hr_iushr hC dX1_feedInt_13 ?_
      obtain ⟨r3, e4, h⟩ := hx_bind h
      refine hs_callV hC 22 [_] _ dX1_feedInt_14 q2400 q1187 q1188 q318 q1189 np_X4 rfl OB_22 pd_X4_add (Nat.le_of_ble_eq_true rfl) hd1 (okX4_add l E A (d - 1)  (by omega) (by unfold hc_by; decide) e4 am1) (hc_rb rfl) rfl (fun am5 ha6 => ?_)
      refine hr_iinc (v := y2 + (-8)) hC dX1_feedInt_17 rfl rfl (by decide) ?_
      refine hr_goto hC 3 dX1_feedInt_20 (by decide) ?_
      exact hr_sub _ rfl (ih _ _ _ _ h JX am5)
set_option maxRecDepth 20000 in
set_option maxHeartbeats 4000000 in
theorem okX1_feedInt (l : Launch) (E : hc_E) (A : Nat → Prop) (d : Nat) (n : Nat) (hD : 3 ≤ d) {x1 : Int32} {σ : hc_St} {r : hc_St} (h : fm_X1_feedInt n x1 σ = some r) (am : Nat → Nat → Nat) : hc_M l hc_V0 yX1_feedInt (ws_ yX1_feedInt cX1_feedInt 3 none) d E A [.ref (E.2.1 0), .int x1] am [3, 4, 12, 22] σ (.inl none) r := by
  have hd1 : 1 ≤ d := by omega
  refine hc_enter2 (own := RX1) [(0, .ref (E.2.1 0)), (1, .int x1)] pl_X1 rfl hc_V0_st hc_G0_nd rfl (Nat.le_of_ble_eq_true rfl) (fun X hC hem => ?_)
  unfold fm_X1_feedInt at h
  refine hr_bipush (v := 24) hC dX1_feedInt_0 rfl ?_
  refine hr_istore_n hC dX1_feedInt_2 (by decide) ?_
  obtain ⟨r7, e8, h⟩ := hx_bind h
  refine hr_sub _ rfl (ll_X1_feedInt_3 n hD hem hC n _ _ _ _ e8 (fun am11 => ?_) am)
  obtain rfl := Option.some.inj h
  exact hr_vret hC dX1_feedInt_23
/-- HomeCompiler.feed(IIIII)V -/
def fm_X1_feed (n : Nat) (x1 : Int32) (x2 : Int32) (x3 : Int32) (x4 : Int32) (x5 : Int32) (σ : hc_St) : Option (Nat × Int32 × hc_St) := Option.bind (fm_X4_size 22 σ) fun r1 => hl (α := Int32) ((if 4096 < (r1 + 20) then 0 else 1)) fun v7 => Option.bind (fm_X1_ready v7 σ) fun r8 => ht r8 <| Option.bind (fm_X1_feedInt n x1 r8.2.2) fun r13 => Option.bind (fm_X1_feedInt n x2 r13) fun r17 => Option.bind (fm_X1_feedInt n x3 r17) fun r21 => Option.bind (fm_X1_feedInt n x4 r21) fun r25 => Option.bind (fm_X1_feedInt n x5 r25) fun r29 => some (0, 0, r29)
set_option maxRecDepth 20000 in
set_option maxHeartbeats 4000000 in
theorem okX1_feed (l : Launch) (E : hc_E) (A : Nat → Prop) (d : Nat) (n : Nat) (hD : 14 ≤ d) {x1 : Int32} {x2 : Int32} {x3 : Int32} {x4 : Int32} {x5 : Int32} {σ : hc_St} {r : (Nat × Int32 × hc_St)} (h : fm_X1_feed n x1 x2 x3 x4 x5 σ = some r) (am : Nat → Nat → Nat) : hc_M l hc_V0 yX1_feed (ws_ yX1_feed cX1_feed 6 none) d E A [.ref (E.2.1 0), .int x1, .int x2, .int x3, .int x4, .int x5] am [3, 4, 12, 22] σ (hc_ot (fun v => none) r) r.2.2 := by
  have hd1 : 1 ≤ d := by omega
  have hd8 : 9 ≤ d := by omega
  have hd12 : 12 ≤ d := by omega
  refine hc_enter2 (own := RX1) [(0, .ref (E.2.1 0)), (1, .int x1), (2, .int x2), (3, .int x3), (4, .int x4), (5, .int x5)] pl_X1 rfl hc_V0_st hc_G0_nd rfl (Nat.le_of_ble_eq_true rfl) (fun X hC hem => ?_)
  have HX := fun z => hc_CX hC z
  unfold fm_X1_feed at h
  refine hr_aload_n hC dX1_feed_0 rfl ?_
  refine hr_gO 22 hC F0_10 rfl dX1_feed_1 q1001 ?_
  obtain ⟨r1, e2, h⟩ := hx_bind h
  refine hs_callV0 hC 22 [] _ dX1_feed_4 q1067 q1068 q1069 q318 q1070 np_X4 rfl OB_22 pd_X4_size (Nat.le_of_ble_eq_true rfl) hd1 (okX4_size l E A (d - 1)  (by omega) (by unfold hc_by; decide) e2 am) rfl ?_
  refine hr_bipush (v := 20) hC dX1_feed_7 rfl ?_
  refine hr_iadd hC dX1_feed_9 ?_
  refine hr_sipush (v := 4096) hC dX1_feed_10 rfl ?_
  obtain ⟨v7, hv7, h⟩ := hl_ok h
  have J33 : ∀ w34 : Int32, (if 4096 < (r1 + 20) then 0 else 1) = w34 → hc_At hc_V0 E 6 X 21 [(0, .ref (E.2.1 0)), (1, .int x1), (2, .int x2), (3, .int x3), (4, .int x4), (5, .int x5)] [.int w34] σ am [] := by
    intro w34 hw34
    obtain rfl := hv7.trans hw34
    obtain ⟨r8, e9, h⟩ := hx_bind h
    by_cases z12 : r8.1 = 0
    · rw [ht_0 z12] at h
      refine hs_callS0 hC [_] _ dX1_feed_21 q2378 q2379 q315 q2380 np_X1 rfl pd_X1_ready (Nat.le_of_ble_eq_true rfl) hd1 (hc_M0 (r := r8) (okX1_ready l E A (d - 1)  (by omega)  e9 am) z12) rfl ?_
      refine hr_aload_n hC dX1_feed_24 rfl ?_
      refine hr_iload_n hC dX1_feed_25 rfl ?_
      obtain ⟨r13, e14, h⟩ := hx_bind h
      refine hs_callV hC 0 [_] _ dX1_feed_26 q2396 q2398 qs154 q315 q2399 np_X1 rfl OB_0 pd_X1_feedInt (Nat.le_of_ble_eq_true rfl) hd1 (okX1_feedInt l E A (d - 1) n (by omega)  e14 am) (hc_rb rfl) rfl (fun am15 ha16 => ?_)
      refine hr_aload_n hC dX1_feed_29 rfl ?_
      refine hr_iload_n hC dX1_feed_30 rfl ?_
      obtain ⟨r17, e18, h⟩ := hx_bind h
      refine hs_callV hC 0 [_] _ dX1_feed_31 q2396 q2398 qs154 q315 q2399 np_X1 rfl OB_0 pd_X1_feedInt (Nat.le_of_ble_eq_true rfl) hd1 (okX1_feedInt l E A (d - 1) n (by omega)  e18 am15) (hc_rb rfl) rfl (fun am19 ha20 => ?_)
      refine hr_aload_n hC dX1_feed_34 rfl ?_
      refine hr_iload_n hC dX1_feed_35 rfl ?_
      obtain ⟨r21, e22, h⟩ := hx_bind h
      refine hs_callV hC 0 [_] _ dX1_feed_36 q2396 q2398 qs154 q315 q2399 np_X1 rfl OB_0 pd_X1_feedInt (Nat.le_of_ble_eq_true rfl) hd1 (okX1_feedInt l E A (d - 1) n (by omega)  e22 am19) (hc_rb rfl) rfl (fun am23 ha24 => ?_)
      refine hr_aload_n hC dX1_feed_39 rfl ?_
      refine hr_iload hC dX1_feed_40 rfl ?_
      obtain ⟨r25, e26, h⟩ := hx_bind h
      refine hs_callV hC 0 [_] _ dX1_feed_42 q2396 q2398 qs154 q315 q2399 np_X1 rfl OB_0 pd_X1_feedInt (Nat.le_of_ble_eq_true rfl) hd1 (okX1_feedInt l E A (d - 1) n (by omega)  e26 am23) (hc_rb rfl) rfl (fun am27 ha28 => ?_)
      refine hr_aload_n hC dX1_feed_45 rfl ?_
      refine hr_iload hC dX1_feed_46 rfl ?_
      obtain ⟨r29, e30, h⟩ := hx_bind h
      refine hs_callV hC 0 [_] _ dX1_feed_48 q2396 q2398 qs154 q315 q2399 np_X1 rfl OB_0 pd_X1_feedInt (Nat.le_of_ble_eq_true rfl) hd1 (okX1_feedInt l E A (d - 1) n (by omega)  e30 am27) (hc_rb rfl) rfl (fun am31 ha32 => ?_)
      obtain rfl := Option.some.inj h
      exact hr_vret hC dX1_feed_51
    · rw [ht_1 z12] at h
      obtain rfl := Option.some.inj h
      exact hs_callSx (HX z12) hem [_] _ dX1_feed_21 q2378 q2379 q315 q2380 np_X1 rfl pd_X1_ready (Nat.le_of_ble_eq_true rfl) hd1 (hc_M1 (r := r8) (okX1_ready l E A (d - 1)  (by omega)  e9 am) z12) (hc_rb rfl) rfl
  refine hr_icmp_gt (x := _) hC 20 dX1_feed_13 (by decide) (fun c35 => ?_) (fun c35 => ?_)
  · refine hr_iconst (v := 0) hC dX1_feed_20 rfl ?_
    exact hr_sub _ rfl (J33 _ (by first | (rw [if_pos c35]; done) | (simp only [if_pos c35]; done) | rfl))
  · refine hr_iconst (v := 1) hC dX1_feed_16 rfl ?_
    refine hr_goto hC 21 dX1_feed_17 (by decide) ?_
    exact hr_sub _ rfl (J33 _ (by first | (rw [if_neg c35]; done) | (simp only [if_neg c35]; done) | rfl))
/-- HomeCompiler.need(Z)V -/
def fm_X1_need  (x0 : Int32) (σ : hc_St) : Option (Nat × Int32 × hc_St) := if x0 = 0 then (hk (hxr σ) <| some (1, 0, pU σ hxC hxS)) else (some (0, 0, σ))
theorem oknX1_need (l : Launch) (E : hc_E) (A : Nat → Prop) (d : Nat) (hD : 13 ≤ d) {x0 : Int32} {σ : hc_St} {r : Nat × Int32 × hc_St} (h : fm_X1_need x0 σ = some r) (am : Nat → Nat → Nat) : hc_N0 l yX1_need (ws_ yX1_need cX1_need 1 none) d E A [.int x0] am σ (hc_ot (fun v => none) r) r.2.2 :=
  hx_need (k := 1) [(0, .int x0)] hD pl_X1 rfl rfl (Nat.le_of_ble_eq_true rfl) rfl q1225 q1271 q341 (fun h1 h2 => hx_at1 h1 h2 q2412) (by decide +kernel) (by decide) dX1_need_0 dX1_need_1 dX1_need_4 dX1_need_7 dX1_need_8 dX1_need_11 dX1_need_12 h am
theorem okX1_need (l : Launch) (E : hc_E) (A : Nat → Prop) (d : Nat) (hD : 13 ≤ d) {x0 : Int32} {σ : hc_St} {r : Nat × Int32 × hc_St} (h : fm_X1_need x0 σ = some r) (am : Nat → Nat → Nat) : hc_M l hc_V0 yX1_need (ws_ yX1_need cX1_need 1 none) d E A [.int x0] am [] σ (hc_ot (fun v => none) r) r.2.2 := (oknX1_need l E A d hD h am).M
/-- HomeCompiler$Bytes.cut(I)V -/
def fm_X4_cut  (o : Nat) (x1 : Int32) (σ : hc_St) : Option hc_St := hl (pI σ o 1 x1) fun σ1 => some σ1
set_option maxRecDepth 20000 in
set_option maxHeartbeats 4000000 in
theorem okX4_cut (l : Launch) (E : hc_E) (A : Nat → Prop) (d : Nat)  (hD : 1 ≤ d) {o : Nat} (ho : hc_by o) {x1 : Int32} {σ : hc_St} {r : hc_St} (h : fm_X4_cut  o x1 σ = some r) (am : Nat → Nat → Nat) : hc_M l hc_V0 yX4_cut (ws_ yX4_cut cX4_cut 2 none) d E A [.ref (E.2.1 o), .int x1] am [] σ (.inl none) r := by
  have hd1 : 1 ≤ d := by omega
  refine hc_enter2 (own := RX4) [(0, .ref (E.2.1 o)), (1, .int x1)] pl_X4 rfl hc_V0_st hc_G0_nd rfl (Nat.le_of_ble_eq_true rfl) (fun X hC hem => ?_)
  unfold fm_X4_cut at h
  refine hr_aload_n hC dX4_cut_0 rfl ?_
  refine hr_iload_n hC dX4_cut_1 rfl ?_
  obtain ⟨σ1, hσ1, h⟩ := hl_ok h
  refine hr_pI hC (FB_1 ho) PX4_1 dX4_cut_2 q430 ?_
  rw [← hσ1]
  obtain rfl := Option.some.inj h
  exact hr_vret hC dX4_cut_5
/-- HomeCompiler.end(I)V -/
def fm_X1_end  (x1 : Int32) (σ : hc_St) : Option (Nat × Int32 × hc_St) := Option.bind (α := Int32) (if x1 < 0 then (some (0)) else (Option.bind (fm_X4_size 22 σ) fun r7 => if r7 < x1 then (some (0)) else (some (1)))) fun r3 => Option.bind (fm_X1_need r3 σ) fun r13 => ht r13 <| Option.bind (fm_X4_cut 22 x1 r13.2.2) fun r18 => some (0, 0, r18)
set_option maxRecDepth 20000 in
set_option maxHeartbeats 4000000 in
theorem okX1_end (l : Launch) (E : hc_E) (A : Nat → Prop) (d : Nat)  (hD : 14 ≤ d) {x1 : Int32} {σ : hc_St} {r : (Nat × Int32 × hc_St)} (h : fm_X1_end  x1 σ = some r) (am : Nat → Nat → Nat) : hc_M l hc_V0 yX1_end (ws_ yX1_end cX1_end 2 none) d E A [.ref (E.2.1 0), .int x1] am [] σ (hc_ot (fun v => none) r) r.2.2 := by
  have hd1 : 1 ≤ d := by omega
  have hd8 : 9 ≤ d := by omega
  have hd12 : 12 ≤ d := by omega
  refine hc_enter2 (own := RX1) [(0, .ref (E.2.1 0)), (1, .int x1)] pl_X1 rfl hc_V0_st hc_G0_nd rfl (Nat.le_of_ble_eq_true rfl) (fun X hC hem => ?_)
  have HX := fun z => hc_CX hC z
  unfold fm_X1_end at h
  refine hr_iload_n hC dX1_end_0 rfl ?_
  obtain ⟨r3, e4, h⟩ := hx_bind h
  have J5 : hc_At hc_V0 E 2 X 20 [(0, .ref (E.2.1 0)), (1, .int x1)] [.int r3] σ am [] := by
    obtain ⟨r13, e14, h⟩ := hx_bind h
    by_cases z17 : r13.1 = 0
    · rw [ht_0 z17] at h
      refine hs_callS0 hC [_] _ dX1_end_20 q2409 q2410 q315 q2411 np_X1 rfl pd_X1_need (Nat.le_of_ble_eq_true rfl) hd1 (hc_M0 (r := r13) (okX1_need l E A (d - 1)  (by omega)  e14 am) z17) rfl ?_
      refine hr_aload_n hC dX1_end_23 rfl ?_
      refine hr_gO 22 hC F0_10 rfl dX1_end_24 q1001 ?_
      refine hr_iload_n hC dX1_end_27 rfl ?_
      obtain ⟨r18, e19, h⟩ := hx_bind h
      refine hs_callV0 hC 22 [_] _ dX1_end_28 q1050 q988 q989 q318 q990 np_X4 rfl OB_22 pd_X4_cut (Nat.le_of_ble_eq_true rfl) hd1 (okX4_cut l E A (d - 1)  (by omega) (by unfold hc_by; decide) e19 am) rfl ?_
      obtain rfl := Option.some.inj h
      exact hr_vret hC dX1_end_31
    · rw [ht_1 z17] at h
      obtain rfl := Option.some.inj h
      exact hs_callSx (HX z17) hem [_] _ dX1_end_20 q2409 q2410 q315 q2411 np_X1 rfl pd_X1_need (Nat.le_of_ble_eq_true rfl) hd1 (hc_M1 (r := r13) (okX1_need l E A (d - 1)  (by omega)  e14 am) z17) (hc_rb rfl) rfl
  clear h
  have h := e4
  refine hr_if_lt (x := _) hC 19 dX1_end_1 (by decide) (fun c2 => ?_) (fun c2 => ?_)
  · rw [if_pos c2] at h
    refine hr_iconst (v := 0) hC dX1_end_19 rfl ?_
    obtain rfl := Option.some.inj h
    exact hr_sub _ rfl (J5)
  · rw [if_neg c2] at h
    refine hr_iload_n hC dX1_end_4 rfl ?_
    refine hr_aload_n hC dX1_end_5 rfl ?_
    refine hr_gO 22 hC F0_10 rfl dX1_end_6 q1001 ?_
    obtain ⟨r7, e8, h⟩ := hx_bind h
    refine hs_callV0 hC 22 [] _ dX1_end_9 q1067 q1068 q1069 q318 q1070 np_X4 rfl OB_22 pd_X4_size (Nat.le_of_ble_eq_true rfl) hd1 (okX4_size l E A (d - 1)  (by omega) (by unfold hc_by; decide) e8 am) rfl ?_
    refine hr_icmp_gt (x := _) hC 19 dX1_end_12 (by decide) (fun c12 => ?_) (fun c12 => ?_)
    · rw [if_pos c12] at h
      refine hr_iconst (v := 0) hC dX1_end_19 rfl ?_
      obtain rfl := Option.some.inj h
      exact hr_sub _ rfl (J5)
    · rw [if_neg c12] at h
      refine hr_iconst (v := 1) hC dX1_end_15 rfl ?_
      refine hr_goto hC 20 dX1_end_16 (by decide) ?_
      obtain rfl := Option.some.inj h
      exact hr_sub _ rfl (J5)
/-- HomeCompiler.input(I)V -/
def fm_X1_input  (x1 : Int32) (σ : hc_St) : Option (Nat × Int32 × hc_St) := hl (α := Int32) ((if 64 ≤ (gI σ 17 6) then 0 else 1)) fun v3 => Option.bind (fm_X1_ready v3 σ) fun r4 => ht r4 <| hl (pI r4.2.2 17 6 ((((gI r4.2.2 17 6)) + 1))) fun σ9 => hk (inb ((gI r4.2.2 17 6)) (gL σ9 17 5)) <| hl (pC σ9 17 5 ((gI r4.2.2 17 6)) x1) fun σ11 => some (0, 0, σ11)
set_option maxRecDepth 20000 in
set_option maxHeartbeats 4000000 in
theorem okX1_input (l : Launch) (E : hc_E) (A : Nat → Prop) (d : Nat)  (hD : 14 ≤ d) {x1 : Int32} {σ : hc_St} {r : (Nat × Int32 × hc_St)} (h : fm_X1_input  x1 σ = some r) (am : Nat → Nat → Nat) : hc_M l hc_V0 yX1_input (ws_ yX1_input cX1_input 2 none) d E A [.ref (E.2.1 0), .int x1] am [] σ (hc_ot (fun v => none) r) r.2.2 := by
  have hd1 : 1 ≤ d := by omega
  have hd8 : 9 ≤ d := by omega
  have hd12 : 12 ≤ d := by omega
  refine hc_enter2 (own := RX1) [(0, .ref (E.2.1 0)), (1, .int x1)] pl_X1 rfl hc_V0_st hc_G0_nd rfl (Nat.le_of_ble_eq_true rfl) (fun X hC hem => ?_)
  have HX := fun z => hc_CX hC z
  unfold fm_X1_input at h
  refine hr_aload_n hC dX1_input_0 rfl ?_
  refine hr_gO 17 hC F0_9 rfl dX1_input_1 q1000 ?_
  refine hr_gIN hC F17_6 dX1_input_4 (nl_6 hC.2.2.2.2.2.2.2.2.1) ?_
  refine hr_bipush (v := 64) hC dX1_input_7 rfl ?_
  obtain ⟨v3, hv3, h⟩ := hl_ok h
  have J12 : ∀ w13 : Int32, (if 64 ≤ (gI σ 17 6) then 0 else 1) = w13 → hc_At hc_V0 E 2 X 17 [(0, .ref (E.2.1 0)), (1, .int x1)] [.int w13] σ am [] := by
    intro w13 hw13
    obtain rfl := hv3.trans hw13
    obtain ⟨r4, e5, h⟩ := hx_bind h
    by_cases z8 : r4.1 = 0
    · rw [ht_0 z8] at h
      refine hs_callS0 hC [_] _ dX1_input_17 q2378 q2379 q315 q2380 np_X1 rfl pd_X1_ready (Nat.le_of_ble_eq_true rfl) hd1 (hc_M0 (r := r4) (okX1_ready l E A (d - 1)  (by omega)  e5 am) z8) rfl ?_
      refine hr_aload_n hC dX1_input_20 rfl ?_
      refine hr_gO 17 hC F0_9 rfl dX1_input_21 q1000 ?_
      refine hr_gAN hC F17_5 rfl dX1_input_24 (nl_5 hC.2.2.2.2.2.2.2.2.1) ?_
      refine hr_aload_n hC dX1_input_27 rfl ?_
      refine hr_gO 17 hC F0_9 rfl dX1_input_28 q1000 ?_
      refine hr_dup hC dX1_input_31 rfl ?_
      refine hr_gIN hC F17_6 dX1_input_32 (nl_6 hC.2.2.2.2.2.2.2.2.1) ?_
      refine hr_dup_x1 hC dX1_input_35 rfl rfl ?_
      refine hr_iconst (v := 1) hC dX1_input_36 rfl ?_
      refine hr_iadd hC dX1_input_37 ?_
      obtain ⟨σ9, hσ9, h⟩ := hl_ok h
      refine hr_pIN hC F17_6 PX16_6 dX1_input_38 (nl_6 hC.2.2.2.2.2.2.2.2.1) ?_
      rw [← hσ9]
      refine hr_iload_n hC dX1_input_41 rfl ?_
      obtain ⟨c10, h⟩ := hk_ok h
      obtain ⟨σ11, hσ11, h⟩ := hl_ok h
      refine hs_iast hC A17_5 c10 dX1_input_42 ?_
      rw [← hσ11]
      obtain rfl := Option.some.inj h
      exact hr_vret hC dX1_input_43
    · rw [ht_1 z8] at h
      obtain rfl := Option.some.inj h
      exact hs_callSx (HX z8) hem [_] _ dX1_input_17 q2378 q2379 q315 q2380 np_X1 rfl pd_X1_ready (Nat.le_of_ble_eq_true rfl) hd1 (hc_M1 (r := r4) (okX1_ready l E A (d - 1)  (by omega)  e5 am) z8) (hc_rb rfl) rfl
  refine hr_icmp_ge (x := _) hC 16 dX1_input_9 (by decide) (fun c14 => ?_) (fun c14 => ?_)
  · refine hr_iconst (v := 0) hC dX1_input_16 rfl ?_
    exact hr_sub _ rfl (J12 _ (by first | (rw [if_pos c14]; done) | (simp only [if_pos c14]; done) | rfl))
  · refine hr_iconst (v := 1) hC dX1_input_12 rfl ?_
    refine hr_goto hC 17 dX1_input_13 (by decide) ?_
    exact hr_sub _ rfl (J12 _ (by first | (rw [if_neg c14]; done) | (simp only [if_neg c14]; done) | rfl))
/-- HomeCompiler$Ram.write(II)V -/
def fm_X17_write  (x1 : Int32) (x2 : Int32) (σ : hc_St) : Option hc_St := hk (inb ((jshr x1 2)) (gL σ 18 1)) <| hl (pC σ 18 1 ((jshr x1 2)) x2) fun σ2 => hk (inb ((jshr x1 2)) (gL σ2 18 2)) <| hl (pC σ2 18 2 ((jshr x1 2)) 0) fun σ4 => hk (inb ((jshr x1 12)) (gL σ4 18 3)) <| Option.bind (α := hc_St) (if (vp_nar .boolean (gC σ4 18 3 ((jshr x1 12)))) = 0 then (some (σ4)) else (hl (pI σ4 18 4 ((((gI σ4 18 4)) + 1))) fun σ12 => some (σ12))) fun r8 => some r8
set_option maxRecDepth 20000 in
set_option maxHeartbeats 4000000 in
theorem okX17_write (l : Launch) (E : hc_E) (A : Nat → Prop) (d : Nat)  (hD : 1 ≤ d) {x1 : Int32} {x2 : Int32} {σ : hc_St} {r : hc_St} (h : fm_X17_write  x1 x2 σ = some r) (am : Nat → Nat → Nat) : hc_M l hc_V0 yX17_write (ws_ yX17_write cX17_write 3 none) d E A [.ref (E.2.1 18), .int x1, .int x2] am [] σ (.inl none) r := by
  have hd1 : 1 ≤ d := by omega
  refine hc_enter2 (own := RX17) [(0, .ref (E.2.1 18)), (1, .int x1), (2, .int x2)] pl_X17 rfl hc_V0_st hc_G0_nd rfl (Nat.le_of_ble_eq_true rfl) (fun X hC hem => ?_)
  unfold fm_X17_write at h
  refine hr_aload_n hC dX17_write_0 rfl ?_
  refine hr_gA hC F18_1 rfl dX17_write_1 q866 ?_
  refine hr_iload_n hC dX17_write_4 rfl ?_
  refine hr_iconst (v := 2) hC dX17_write_5 rfl ?_
  refine hr_ishr hC dX17_write_6 ?_
  refine hr_iload_n hC dX17_write_7 rfl ?_
  obtain ⟨c1, h⟩ := hk_ok h
  obtain ⟨σ2, hσ2, h⟩ := hl_ok h
  refine hs_iast hC A18_1 c1 dX17_write_8 ?_
  rw [← hσ2]
  refine hr_aload_n hC dX17_write_9 rfl ?_
  refine hr_gA hC F18_2 rfl dX17_write_10 q867 ?_
  refine hr_iload_n hC dX17_write_13 rfl ?_
  refine hr_iconst (v := 2) hC dX17_write_14 rfl ?_
  refine hr_ishr hC dX17_write_15 ?_
  refine hr_iconst (v := 0) hC dX17_write_16 rfl ?_
  obtain ⟨c3, h⟩ := hk_ok h
  obtain ⟨σ4, hσ4, h⟩ := hl_ok h
  refine hs_bast hC A18_2 c3 dX17_write_17 ?_
  rw [← hσ4]
  refine hr_aload_n hC dX17_write_18 rfl ?_
  refine hr_gA hC F18_3 rfl dX17_write_19 q868 ?_
  refine hr_iload_n hC dX17_write_22 rfl ?_
  refine hr_bipush (v := 12) hC dX17_write_23 rfl ?_
  refine hr_ishr hC dX17_write_25 ?_
  obtain ⟨c5, h⟩ := hk_ok h
  refine hs_zald hC A18_3 c5 dX17_write_26 ?_
  obtain ⟨r8, e9, h⟩ := hx_bind h
  have J10 : hc_At hc_V0 E 3 X 40 [] [] r8 am [] := by
    obtain rfl := Option.some.inj h
    exact hr_vret hC dX17_write_40
  clear h
  have h := e9
  refine hr_if_eq (x := _) hC 40 dX17_write_27 (by decide) (fun c7 => ?_) (fun c7 => ?_)
  · rw [if_pos c7] at h
    obtain rfl := Option.some.inj h
    exact hr_sub _ rfl (J10)
  · rw [if_neg c7] at h
    refine hr_aload_n hC dX17_write_30 rfl ?_
    refine hr_dup hC dX17_write_31 rfl ?_
    refine hr_gI hC F18_4 dX17_write_32 q869 ?_
    refine hr_iconst (v := 1) hC dX17_write_35 rfl ?_
    refine hr_iadd hC dX17_write_36 ?_
    obtain ⟨σ12, hσ12, h⟩ := hl_ok h
    refine hr_pI hC F18_4 PX17_4 dX17_write_37 q869 ?_
    rw [← hσ12]
    obtain rfl := Option.some.inj h
    exact hr_sub _ rfl (J10)
/-- HomeCompiler$Nodes.first(I)I -/
def fm_X6_first  (x1 : Int32) (σ : hc_St) : Option Int32 := hk (inb x1 (gL σ 6 7)) <| some ((gC σ 6 7 x1))
set_option maxRecDepth 20000 in
set_option maxHeartbeats 4000000 in
theorem okX6_first (l : Launch) (E : hc_E) (A : Nat → Prop) (d : Nat)  (hD : 1 ≤ d) {x1 : Int32} {σ : hc_St} {r : Int32} (h : fm_X6_first  x1 σ = some r) (am : Nat → Nat → Nat) : hc_M l hc_V0 yX6_first (ws_ yX6_first cX6_first 2 (some .int)) d E A [.ref (E.2.1 6), .int x1] am [] σ (.inl (some (.int r))) σ := by
  have hd1 : 1 ≤ d := by omega
  refine hc_enter2 (own := RX6) [(0, .ref (E.2.1 6)), (1, .int x1)] pl_X6 rfl hc_V0_st hc_G0_nd rfl (Nat.le_of_ble_eq_true rfl) (fun X hC hem => ?_)
  unfold fm_X6_first at h
  refine hr_aload_n hC dX6_first_0 rfl ?_
  refine hr_gA hC F6_7 rfl dX6_first_1 q532 ?_
  refine hr_iload_n hC dX6_first_4 rfl ?_
  obtain ⟨c1, h⟩ := hk_ok h
  refine hs_iald hC A6_7 c1 dX6_first_5 ?_
  obtain rfl := Option.some.inj h
  exact hr_iret hC dX6_first_6
/-- HomeCompiler$Nodes.kind(I)I -/
def fm_X6_kind  (x1 : Int32) (σ : hc_St) : Option Int32 := hk (inb x1 (gL σ 6 0)) <| some ((gC σ 6 0 x1))
set_option maxRecDepth 20000 in
set_option maxHeartbeats 4000000 in
theorem okX6_kind (l : Launch) (E : hc_E) (A : Nat → Prop) (d : Nat)  (hD : 1 ≤ d) {x1 : Int32} {σ : hc_St} {r : Int32} (h : fm_X6_kind  x1 σ = some r) (am : Nat → Nat → Nat) : hc_M l hc_V0 yX6_kind (ws_ yX6_kind cX6_kind 2 (some .int)) d E A [.ref (E.2.1 6), .int x1] am [] σ (.inl (some (.int r))) σ := by
  have hd1 : 1 ≤ d := by omega
  refine hc_enter2 (own := RX6) [(0, .ref (E.2.1 6)), (1, .int x1)] pl_X6 rfl hc_V0_st hc_G0_nd rfl (Nat.le_of_ble_eq_true rfl) (fun X hC hem => ?_)
  unfold fm_X6_kind at h
  refine hr_aload_n hC dX6_kind_0 rfl ?_
  refine hr_gA hC F6_0 rfl dX6_kind_1 q525 ?_
  refine hr_iload_n hC dX6_kind_4 rfl ?_
  obtain ⟨c1, h⟩ := hk_ok h
  refine hs_iald hC A6_0 c1 dX6_kind_5 ?_
  obtain rfl := Option.some.inj h
  exact hr_iret hC dX6_kind_6
/-- HomeCompiler$Nodes.op(I)I -/
def fm_X6_op  (x1 : Int32) (σ : hc_St) : Option Int32 := hk (inb x1 (gL σ 6 1)) <| some ((gC σ 6 1 x1))
set_option maxRecDepth 20000 in
set_option maxHeartbeats 4000000 in
theorem okX6_op (l : Launch) (E : hc_E) (A : Nat → Prop) (d : Nat)  (hD : 1 ≤ d) {x1 : Int32} {σ : hc_St} {r : Int32} (h : fm_X6_op  x1 σ = some r) (am : Nat → Nat → Nat) : hc_M l hc_V0 yX6_op (ws_ yX6_op cX6_op 2 (some .int)) d E A [.ref (E.2.1 6), .int x1] am [] σ (.inl (some (.int r))) σ := by
  have hd1 : 1 ≤ d := by omega
  refine hc_enter2 (own := RX6) [(0, .ref (E.2.1 6)), (1, .int x1)] pl_X6 rfl hc_V0_st hc_G0_nd rfl (Nat.le_of_ble_eq_true rfl) (fun X hC hem => ?_)
  unfold fm_X6_op at h
  refine hr_aload_n hC dX6_op_0 rfl ?_
  refine hr_gA hC F6_1 rfl dX6_op_1 q526 ?_
  refine hr_iload_n hC dX6_op_4 rfl ?_
  obtain ⟨c1, h⟩ := hk_ok h
  refine hs_iald hC A6_1 c1 dX6_op_5 ?_
  obtain rfl := Option.some.inj h
  exact hr_iret hC dX6_op_6
/-- HomeCompiler$Nodes.extra(I)I -/
def fm_X6_extra  (x1 : Int32) (σ : hc_St) : Option Int32 := hk (inb x1 (gL σ 6 3)) <| some ((gC σ 6 3 x1))
set_option maxRecDepth 20000 in
set_option maxHeartbeats 4000000 in
theorem okX6_extra (l : Launch) (E : hc_E) (A : Nat → Prop) (d : Nat)  (hD : 1 ≤ d) {x1 : Int32} {σ : hc_St} {r : Int32} (h : fm_X6_extra  x1 σ = some r) (am : Nat → Nat → Nat) : hc_M l hc_V0 yX6_extra (ws_ yX6_extra cX6_extra 2 (some .int)) d E A [.ref (E.2.1 6), .int x1] am [] σ (.inl (some (.int r))) σ := by
  have hd1 : 1 ≤ d := by omega
  refine hc_enter2 (own := RX6) [(0, .ref (E.2.1 6)), (1, .int x1)] pl_X6 rfl hc_V0_st hc_G0_nd rfl (Nat.le_of_ble_eq_true rfl) (fun X hC hem => ?_)
  unfold fm_X6_extra at h
  refine hr_aload_n hC dX6_extra_0 rfl ?_
  refine hr_gA hC F6_3 rfl dX6_extra_1 q528 ?_
  refine hr_iload_n hC dX6_extra_4 rfl ?_
  obtain ⟨c1, h⟩ := hk_ok h
  refine hs_iald hC A6_3 c1 dX6_extra_5 ?_
  obtain rfl := Option.some.inj h
  exact hr_iret hC dX6_extra_6
/-- HomeCompiler$Generator.address(I)I -/
def fm_X13_address_2  (x1 : Int32) (σ : hc_St) : Option Int32 := hk (inb x1 (gL σ 14 9)) <| some ((gC σ 14 9 x1))
set_option maxRecDepth 20000 in
set_option maxHeartbeats 4000000 in
theorem okX13_address_2 (l : Launch) (E : hc_E) (A : Nat → Prop) (d : Nat)  (hD : 1 ≤ d) {x1 : Int32} {σ : hc_St} {r : Int32} (h : fm_X13_address_2  x1 σ = some r) (am : Nat → Nat → Nat) : hc_M l hc_V0 yX13_address_2 (ws_ yX13_address_2 cX13_address_2 2 (some .int)) d E A [.ref (E.2.1 14), .int x1] am [] σ (.inl (some (.int r))) σ := by
  have hd1 : 1 ≤ d := by omega
  refine hc_enter2 (own := RX13) [(0, .ref (E.2.1 14)), (1, .int x1)] pl_X13 rfl hc_V0_st hc_G0_nd rfl (Nat.le_of_ble_eq_true rfl) (fun X hC hem => ?_)
  unfold fm_X13_address_2 at h
  refine hr_aload_n hC dX13_address_2_0 rfl ?_
  refine hr_gA hC F14_9 rfl dX13_address_2_1 q804 ?_
  refine hr_iload_n hC dX13_address_2_4 rfl ?_
  obtain ⟨c1, h⟩ := hk_ok h
  refine hs_iald hC A14_9 c1 dX13_address_2_5 ?_
  obtain rfl := Option.some.inj h
  exact hr_iret hC dX13_address_2_6
/-- HomeCompiler$Nodes.next(I)I -/
def fm_X6_next  (x1 : Int32) (σ : hc_St) : Option Int32 := hk (inb x1 (gL σ 6 9)) <| some ((gC σ 6 9 x1))
set_option maxRecDepth 20000 in
set_option maxHeartbeats 4000000 in
theorem okX6_next (l : Launch) (E : hc_E) (A : Nat → Prop) (d : Nat)  (hD : 1 ≤ d) {x1 : Int32} {σ : hc_St} {r : Int32} (h : fm_X6_next  x1 σ = some r) (am : Nat → Nat → Nat) : hc_M l hc_V0 yX6_next (ws_ yX6_next cX6_next 2 (some .int)) d E A [.ref (E.2.1 6), .int x1] am [] σ (.inl (some (.int r))) σ := by
  have hd1 : 1 ≤ d := by omega
  refine hc_enter2 (own := RX6) [(0, .ref (E.2.1 6)), (1, .int x1)] pl_X6 rfl hc_V0_st hc_G0_nd rfl (Nat.le_of_ble_eq_true rfl) (fun X hC hem => ?_)
  unfold fm_X6_next at h
  refine hr_aload_n hC dX6_next_0 rfl ?_
  refine hr_gA hC F6_9 rfl dX6_next_1 q534 ?_
  refine hr_iload_n hC dX6_next_4 rfl ?_
  obtain ⟨c1, h⟩ := hk_ok h
  refine hs_iald hC A6_9 c1 dX6_next_5 ?_
  obtain rfl := Option.some.inj h
  exact hr_iret hC dX6_next_6
def lp_X6_children_9 (n : Nat) : Nat → Int32 → Int32 → hc_St → Option (Int32)
  | 0, _, _, _ => none
  | m + 1, y2, y3, σ => if y3 = (-1) then (some (y2)) else (hk (inb y3 (gL σ 6 9)) <| lp_X6_children_9 n m ((y2 + 1)) ((gC σ 6 9 y3)) σ)
/-- HomeCompiler$Nodes.children(I)I -/
def fm_X6_children (n : Nat) (x1 : Int32) (σ : hc_St) : Option Int32 := hk (inb x1 (gL σ 6 7)) <| Option.bind (lp_X6_children_9 n n 0 ((gC σ 6 7 x1)) σ) fun r5 => some r5
set_option maxRecDepth 20000 in
set_option maxHeartbeats 4000000 in
theorem ll_X6_children_9 {l : Launch} {E : hc_E} {A : Nat → Prop} {am : Nat → Nat → Nat} {d : Nat} {X : hc_X} (n : Nat) (hD : 1 ≤ d) (hem : X.2.2.2.2.2.2.2.2.2.1.exceptionTable.isEmpty = true) {oc : hc_Oc} {σe : hc_St} (hC : hc_C hc_V0 E cX6_children 4 RX6 (some .int) d oc σe (l, A, am, []) X) : ∀ (m : Nat) (σ : hc_St) (y2 : Int32) (y3 : Int32) (rl : Int32) (am1 : Nat → Nat → Nat), lp_X6_children_9 n m y2 y3 σ = some rl → (hc_At hc_V0 E 4 X 27 [(2, .int rl)] [] σ am1 []) → hc_At hc_V0 E 4 X 9 [(0, .ref (E.2.1 6)), (2, .int y2), (3, .int y3)] [] σ am1 [] := by
  have hd1 : 1 ≤ d := by omega
  intro m
  induction m with
  | zero =>
    intro σ y2 y3 rl am1 h
    cases h
  | succ m ih =>
    intro σ y2 y3 rl am1 h JX
    rw [lp_X6_children_9] at h
    refine hr_iload_n hC dX6_children_9 rfl ?_
    refine hr_iconst (v := (-1)) hC dX6_children_10 rfl ?_
    refine hr_icmp_eq (x := _) hC 27 dX6_children_11 (by decide) (fun c3 => ?_) (fun c3 => ?_)
    · rw [if_pos c3] at h
      obtain rfl := Option.some.inj h
      exact hr_sub _ rfl (JX)
    · rw [if_neg c3] at h
      refine hr_iinc (v := y2 + 1) hC dX6_children_14 rfl rfl (by decide) ?_
      refine hr_aload_n hC dX6_children_17 rfl ?_
      refine hr_gA hC F6_9 rfl dX6_children_18 q534 ?_
      refine hr_iload_n hC dX6_children_21 rfl ?_
      obtain ⟨c4, h⟩ := hk_ok h
      refine hs_iald hC A6_9 c4 dX6_children_22 ?_
      refine hr_istore_n hC dX6_children_23 (by decide) ?_
      refine hr_goto hC 9 dX6_children_24 (by decide) ?_
      exact hr_sub _ rfl (ih _ _ _ _ am1 h JX)
set_option maxRecDepth 20000 in
set_option maxHeartbeats 4000000 in
theorem okX6_children (l : Launch) (E : hc_E) (A : Nat → Prop) (d : Nat) (n : Nat) (hD : 1 ≤ d) {x1 : Int32} {σ : hc_St} {r : Int32} (h : fm_X6_children n x1 σ = some r) (am : Nat → Nat → Nat) : hc_M l hc_V0 yX6_children (ws_ yX6_children cX6_children 4 (some .int)) d E A [.ref (E.2.1 6), .int x1] am [] σ (.inl (some (.int r))) σ := by
  have hd1 : 1 ≤ d := by omega
  refine hc_enter2 (own := RX6) [(0, .ref (E.2.1 6)), (1, .int x1)] pl_X6 rfl hc_V0_st hc_G0_nd rfl (Nat.le_of_ble_eq_true rfl) (fun X hC hem => ?_)
  unfold fm_X6_children at h
  refine hr_iconst (v := 0) hC dX6_children_0 rfl ?_
  refine hr_istore_n hC dX6_children_1 (by decide) ?_
  refine hr_aload_n hC dX6_children_2 rfl ?_
  refine hr_gA hC F6_7 rfl dX6_children_3 q532 ?_
  refine hr_iload_n hC dX6_children_6 rfl ?_
  obtain ⟨c1, h⟩ := hk_ok h
  refine hs_iald hC A6_7 c1 dX6_children_7 ?_
  refine hr_istore_n hC dX6_children_8 (by decide) ?_
  obtain ⟨r5, e6, h⟩ := hx_bind h
  refine hr_sub _ rfl (ll_X6_children_9 n hD hem hC n _ _ _ _ am e6 ?_)
  refine hr_iload_n hC dX6_children_27 rfl ?_
  obtain rfl := Option.some.inj h
  exact hr_iret hC dX6_children_28
/-- HomeCompiler$Generator.given(IZ)I -/
def fm_X13_given (n : Nat) (x1 : Int32) (x2 : Int32) (σ : hc_St) : Option Int32 := Option.bind (α := Int32) (if x1 = (-1) then (some (0)) else (Option.bind (fm_X6_kind x1 σ) fun r7 => if r7 = 9 then (Option.bind (fm_X6_op x1 σ) fun r17 => some (r17)) else (Option.bind (fm_X6_children n x1 σ) fun r13 => some (r13)))) fun r3 => Option.bind (α := Int32) (if x2 = 0 then (some (r3)) else (some ((((r3 + 3)) / 4)))) fun r23 => some r23
set_option maxRecDepth 20000 in
set_option maxHeartbeats 4000000 in
theorem okX13_given (l : Launch) (E : hc_E) (A : Nat → Prop) (d : Nat) (n : Nat) (hD : 2 ≤ d) {x1 : Int32} {x2 : Int32} {σ : hc_St} {r : Int32} (h : fm_X13_given n x1 x2 σ = some r) (am : Nat → Nat → Nat) : hc_M l hc_V0 yX13_given (ws_ yX13_given cX13_given 4 (some .int)) d E A [.ref (E.2.1 14), .int x1, .int x2] am [] σ (.inl (some (.int r))) σ := by
  have hd1 : 1 ≤ d := by omega
  refine hc_enter2 (own := RX13) [(0, .ref (E.2.1 14)), (1, .int x1), (2, .int x2)] pl_X13 rfl hc_V0_st hc_G0_nd rfl (Nat.le_of_ble_eq_true rfl) (fun X hC hem => ?_)
  unfold fm_X13_given at h
  refine hr_iload_n hC dX13_given_0 rfl ?_
  refine hr_iconst (v := (-1)) hC dX13_given_1 rfl ?_
  obtain ⟨r3, e4, h⟩ := hx_bind h
  have J5 : hc_At hc_V0 E 4 X 41 [(2, .int x2)] [.int r3] σ am [] := by
    refine hr_istore_n hC dX13_given_41 (by decide) ?_
    refine hr_iload_n hC dX13_given_42 rfl ?_
    obtain ⟨r23, e24, h⟩ := hx_bind h
    have J25 : hc_At hc_V0 E 4 X 55 [] [.int r23] σ am [] := by
      obtain rfl := Option.some.inj h
      exact hr_iret hC dX13_given_55
    clear h
    have h := e24
    refine hr_if_eq (x := _) hC 54 dX13_given_43 (by decide) (fun c22 => ?_) (fun c22 => ?_)
    · rw [if_pos c22] at h
      refine hr_iload_n hC dX13_given_54 rfl ?_
      obtain rfl := Option.some.inj h
      exact hr_sub _ rfl (J25)
    · rw [if_neg c22] at h
      refine hr_iload_n hC dX13_given_46 rfl ?_
      refine hr_iconst (v := 3) hC dX13_given_47 rfl ?_
      refine hr_iadd hC dX13_given_48 ?_
      refine hr_iconst (v := 4) hC dX13_given_49 rfl ?_
      refine hr_idiv hC dX13_given_50 (by decide) ?_
      refine hr_goto hC 55 dX13_given_51 (by decide) ?_
      obtain rfl := Option.some.inj h
      exact hr_sub _ rfl (J25)
  clear h
  have h := e4
  refine hr_icmp_ne (x := _) hC 9 dX13_given_2 (by decide) (fun c2 => ?_) (fun c2 => ?_)
  · rw [if_neg c2] at h
    refine hr_aload_n hC dX13_given_9 rfl ?_
    refine hr_gO 6 hC F14_0 rfl dX13_given_10 q795 ?_
    refine hr_iload_n hC dX13_given_13 rfl ?_
    obtain ⟨r7, e8, h⟩ := hx_bind h
    refine hs_callV0 hC 6 [_] _ dX13_given_14 q2049 q1369 q1370 q320 q1371 np_X6 rfl OB_6 pd_X6_kind (Nat.le_of_ble_eq_true rfl) hd1 (okX6_kind l E A (d - 1)  (by omega)  e8 am) rfl ?_
    refine hr_bipush (v := 9) hC dX13_given_17 rfl ?_
    refine hr_icmp_ne (x := _) hC 33 dX13_given_19 (by decide) (fun c12 => ?_) (fun c12 => ?_)
    · rw [if_neg c12] at h
      refine hr_aload_n hC dX13_given_33 rfl ?_
      refine hr_gO 6 hC F14_0 rfl dX13_given_34 q795 ?_
      refine hr_iload_n hC dX13_given_37 rfl ?_
      obtain ⟨r13, e14, h⟩ := hx_bind h
      refine hs_callV0 hC 6 [_] _ dX13_given_38 q2090 q1675 q1676 q320 q1677 np_X6 rfl OB_6 pd_X6_children (Nat.le_of_ble_eq_true rfl) hd1 (okX6_children l E A (d - 1) n (by omega)  e14 am) rfl ?_
      obtain rfl := Option.some.inj h
      exact hr_sub _ rfl (J5)
    · rw [if_pos c12] at h
      refine hr_aload_n hC dX13_given_22 rfl ?_
      refine hr_gO 6 hC F14_0 rfl dX13_given_23 q795 ?_
      refine hr_iload_n hC dX13_given_26 rfl ?_
      obtain ⟨r17, e18, h⟩ := hx_bind h
      refine hs_callV0 hC 6 [_] _ dX13_given_27 q1978 q1639 q1640 q320 q1641 np_X6 rfl OB_6 pd_X6_op (Nat.le_of_ble_eq_true rfl) hd1 (okX6_op l E A (d - 1)  (by omega)  e18 am) rfl ?_
      refine hr_goto hC 41 dX13_given_30 (by decide) ?_
      obtain rfl := Option.some.inj h
      exact hr_sub _ rfl (J5)
  · rw [if_pos c2] at h
    refine hr_iconst (v := 0) hC dX13_given_5 rfl ?_
    refine hr_goto hC 41 dX13_given_6 (by decide) ?_
    obtain rfl := Option.some.inj h
    exact hr_sub _ rfl (J5)
/-- HomeCompiler$Nodes.value(I)I -/
def fm_X6_value  (x1 : Int32) (σ : hc_St) : Option Int32 := hk (inb x1 (gL σ 6 2)) <| some ((gC σ 6 2 x1))
set_option maxRecDepth 20000 in
set_option maxHeartbeats 4000000 in
theorem okX6_value (l : Launch) (E : hc_E) (A : Nat → Prop) (d : Nat)  (hD : 1 ≤ d) {x1 : Int32} {σ : hc_St} {r : Int32} (h : fm_X6_value  x1 σ = some r) (am : Nat → Nat → Nat) : hc_M l hc_V0 yX6_value (ws_ yX6_value cX6_value 2 (some .int)) d E A [.ref (E.2.1 6), .int x1] am [] σ (.inl (some (.int r))) σ := by
  have hd1 : 1 ≤ d := by omega
  refine hc_enter2 (own := RX6) [(0, .ref (E.2.1 6)), (1, .int x1)] pl_X6 rfl hc_V0_st hc_G0_nd rfl (Nat.le_of_ble_eq_true rfl) (fun X hC hem => ?_)
  unfold fm_X6_value at h
  refine hr_aload_n hC dX6_value_0 rfl ?_
  refine hr_gA hC F6_2 rfl dX6_value_1 q527 ?_
  refine hr_iload_n hC dX6_value_4 rfl ?_
  obtain ⟨c1, h⟩ := hk_ok h
  refine hs_iald hC A6_2 c1 dX6_value_5 ?_
  obtain rfl := Option.some.inj h
  exact hr_iret hC dX6_value_6
/-- HomeCompiler$Bytes.at(I)I -/
def fm_X4_at  (o : Nat) (x1 : Int32) (σ : hc_St) : Option Int32 := hk (inb x1 (gL σ o 0)) <| some ((((gC σ o 0 x1).toInt8.toInt32) &&& 255))
set_option maxRecDepth 20000 in
set_option maxHeartbeats 4000000 in
theorem okX4_at (l : Launch) (E : hc_E) (A : Nat → Prop) (d : Nat)  (hD : 1 ≤ d) {o : Nat} (ho : hc_by o) {x1 : Int32} {σ : hc_St} {r : Int32} (h : fm_X4_at  o x1 σ = some r) (am : Nat → Nat → Nat) : hc_M l hc_V0 yX4_at (ws_ yX4_at cX4_at 2 (some .int)) d E A [.ref (E.2.1 o), .int x1] am [] σ (.inl (some (.int r))) σ := by
  have hd1 : 1 ≤ d := by omega
  refine hc_enter2 (own := RX4) [(0, .ref (E.2.1 o)), (1, .int x1)] pl_X4 rfl hc_V0_st hc_G0_nd rfl (Nat.le_of_ble_eq_true rfl) (fun X hC hem => ?_)
  unfold fm_X4_at at h
  refine hr_aload_n hC dX4_at_0 rfl ?_
  refine hr_gA hC (FB_0 ho) rfl dX4_at_1 q429 ?_
  refine hr_iload_n hC dX4_at_4 rfl ?_
  obtain ⟨c1, h⟩ := hk_ok h
  refine hs_bald hC (AB_0 ho) c1 dX4_at_5 ?_
  refine hr_sipush (v := 255) hC dX4_at_6 rfl ?_
  refine hr_iand hC dX4_at_9 ?_
  obtain rfl := Option.some.inj h
  exact hr_iret hC dX4_at_10
def lp_X13_element_108 (n : Nat) : Nat → Int32 → Int32 → Int32 → Int32 → hc_St → Option (Int32)
  | 0, _, _, _, _, _ => none
  | m + 1, y1, y2, y4, y5, σ => if y2 ≤ y5 then (some (y4)) else (if y4 = (-1) then (some (y4)) else (Option.bind (fm_X6_next y4 σ) fun r27 => lp_X13_element_108 n m y1 y2 r27 ((y5 + 1)) σ))
/-- HomeCompiler$Generator.element(II)I -/
def fm_X13_element (n : Nat) (x1 : Int32) (x2 : Int32) (σ : hc_St) : Option (Int32 × hc_St) := Option.bind (fm_X6_kind x1 σ) fun r1 => if r1 = 9 then (Option.bind (fm_X6_op x1 σ) fun r57 => Option.bind (α := Int32) (if r57 ≤ x2 then (some (0)) else (Option.bind (fm_X6_value x1 σ) fun r67 => Option.bind (fm_X4_at 4 ((r67 + x2)) σ) fun r71 => some (r71))) fun r63 => some (r63, σ)) else (hl (α := Int32) ((if x2 ≤ 0 then 0 else (if x1 = (gI σ 14 16) then (if x2 < (gI σ 14 17) then 0 else 1) else 0))) fun v9 => Option.bind (α := Int32) (if v9 = 0 then (Option.bind (fm_X6_first x1 σ) fun r16 => some (r16)) else (some ((gI σ 14 18)))) fun r12 => hl (α := Int32) ((if v9 = 0 then 0 else (gI σ 14 17))) fun v22 => Option.bind (lp_X13_element_108 n n x1 x2 r12 v22 σ) fun r31 => hl (pI σ 14 16 x1) fun σ36 => hl (pI σ36 14 17 x2) fun σ37 => hl (pI σ37 14 18 r31) fun σ38 => Option.bind (α := Int32) (if r31 = (-1) then (some (0)) else (Option.bind (fm_X6_value r31 σ38) fun r45 => some (r45))) fun r41 => some (r41, σ38))
set_option maxRecDepth 20000 in
set_option maxHeartbeats 4000000 in
theorem ll_X13_element_108 {l : Launch} {E : hc_E} {A : Nat → Prop} {am : Nat → Nat → Nat} {d : Nat} {X : hc_X} (n : Nat) (hD : 2 ≤ d) (hem : X.2.2.2.2.2.2.2.2.2.1.exceptionTable.isEmpty = true) {oc : hc_Oc} {σe : hc_St} (hC : hc_C hc_V0 E cX13_element 6 RX13 (some .int) d oc σe (l, A, am, []) X) : ∀ (m : Nat) (σ : hc_St) (y1 : Int32) (y2 : Int32) (y4 : Int32) (y5 : Int32) (rl : Int32) (am1 : Nat → Nat → Nat), lp_X13_element_108 n m y1 y2 y4 y5 σ = some rl → (hc_At hc_V0 E 6 X 137 [(0, .ref (E.2.1 14)), (1, .int y1), (2, .int y2), (4, .int rl)] [] σ am1 []) → hc_At hc_V0 E 6 X 108 [(0, .ref (E.2.1 14)), (1, .int y1), (2, .int y2), (4, .int y4), (5, .int y5)] [] σ am1 [] := by
  have hd1 : 1 ≤ d := by omega
  intro m
  induction m with
  | zero =>
    intro σ y1 y2 y4 y5 rl am1 h
    cases h
  | succ m ih =>
    intro σ y1 y2 y4 y5 rl am1 h JX
    rw [lp_X13_element_108] at h
    refine hr_iload hC dX13_element_108 rfl ?_
    refine hr_iload_n hC dX13_element_110 rfl ?_
    refine hr_icmp_ge (x := _) hC 137 dX13_element_111 (by decide) (fun c24 => ?_) (fun c24 => ?_)
    · rw [if_pos c24] at h
      obtain rfl := Option.some.inj h
      exact hr_sub _ rfl (JX)
    · rw [if_neg c24] at h
      refine hr_iload hC dX13_element_114 rfl ?_
      refine hr_iconst (v := (-1)) hC dX13_element_116 rfl ?_
      refine hr_icmp_eq (x := _) hC 137 dX13_element_117 (by decide) (fun c26 => ?_) (fun c26 => ?_)
      · rw [if_pos c26] at h
        obtain rfl := Option.some.inj h
        exact hr_sub _ rfl (JX)
      · rw [if_neg c26] at h
        refine hr_aload_n hC dX13_element_120 rfl ?_
        refine hr_gO 6 hC F14_0 rfl dX13_element_121 q795 ?_
        refine hr_iload hC dX13_element_124 rfl ?_
        obtain ⟨r27, e28, h⟩ := hx_bind h
        refine hs_callV0 hC 6 [_] _ dX13_element_126 q2068 q1603 q1604 q320 q1605 np_X6 rfl OB_6 pd_X6_next (Nat.le_of_ble_eq_true rfl) hd1 (okX6_next l E A (d - 1)  (by omega)  e28 am1) rfl ?_
        refine hr_istore hC dX13_element_129 (by decide) ?_
        refine hr_iinc (v := y5 + 1) hC dX13_element_131 rfl rfl (by decide) ?_
        refine hr_goto hC 108 dX13_element_134 (by decide) ?_
        exact hr_sub _ rfl (ih _ _ _ _ _ _ am1 h JX)
set_option maxRecDepth 20000 in
set_option maxHeartbeats 4000000 in
theorem okX13_element (l : Launch) (E : hc_E) (A : Nat → Prop) (d : Nat) (n : Nat) (hD : 2 ≤ d) {x1 : Int32} {x2 : Int32} {σ : hc_St} {r : (Int32 × hc_St)} (h : fm_X13_element n x1 x2 σ = some r) (am : Nat → Nat → Nat) : hc_M l hc_V0 yX13_element (ws_ yX13_element cX13_element 6 (some .int)) d E A [.ref (E.2.1 14), .int x1, .int x2] am [] σ (.inl (some (.int r.1))) r.2 := by
  have hd1 : 1 ≤ d := by omega
  refine hc_enter2 (own := RX13) [(0, .ref (E.2.1 14)), (1, .int x1), (2, .int x2)] pl_X13 rfl hc_V0_st hc_G0_nd rfl (Nat.le_of_ble_eq_true rfl) (fun X hC hem => ?_)
  unfold fm_X13_element at h
  refine hr_aload_n hC dX13_element_0 rfl ?_
  refine hr_gO 6 hC F14_0 rfl dX13_element_1 q795 ?_
  refine hr_iload_n hC dX13_element_4 rfl ?_
  obtain ⟨r1, e2, h⟩ := hx_bind h
  refine hs_callV0 hC 6 [_] _ dX13_element_5 q2049 q1369 q1370 q320 q1371 np_X6 rfl OB_6 pd_X6_kind (Nat.le_of_ble_eq_true rfl) hd1 (okX6_kind l E A (d - 1)  (by omega)  e2 am) rfl ?_
  refine hr_bipush (v := 9) hC dX13_element_8 rfl ?_
  refine hr_icmp_ne (x := _) hC 47 dX13_element_10 (by decide) (fun c6 => ?_) (fun c6 => ?_)
  · rw [if_neg c6] at h
    refine hr_iload_n hC dX13_element_47 rfl ?_
    obtain ⟨v9, hv9, h⟩ := hl_ok h
    have J52 : ∀ w53 : Int32, (if x2 ≤ 0 then 0 else (if x1 = (gI σ 14 16) then (if x2 < (gI σ 14 17) then 0 else 1) else 0)) = w53 → hc_At hc_V0 E 6 X 72 [(0, .ref (E.2.1 14)), (1, .int x1), (2, .int x2)] [.int w53] σ am [] := by
      intro w53 hw53
      obtain rfl := hv9.trans hw53
      refine hr_istore_n hC dX13_element_72 (by decide) ?_
      refine hr_iload_n hC dX13_element_73 rfl ?_
      obtain ⟨r12, e13, h⟩ := hx_bind h
      have J14 : hc_At hc_V0 E 6 X 92 [(0, .ref (E.2.1 14)), (1, .int x1), (2, .int x2), (3, .int v9)] [.int r12] σ am [] := by
        refine hr_istore hC dX13_element_92 (by decide) ?_
        refine hr_iload_n hC dX13_element_94 rfl ?_
        obtain ⟨v22, hv22, h⟩ := hl_ok h
        have J49 : ∀ w50 : Int32, (if v9 = 0 then 0 else (gI σ 14 17)) = w50 → hc_At hc_V0 E 6 X 106 [(0, .ref (E.2.1 14)), (1, .int x1), (2, .int x2), (4, .int r12)] [.int w50] σ am [] := by
          intro w50 hw50
          obtain rfl := hv22.trans hw50
          refine hr_istore hC dX13_element_106 (by decide) ?_
          obtain ⟨r31, e32, h⟩ := hx_bind h
          refine hr_sub _ rfl (ll_X13_element_108 n hD hem hC n _ _ _ _ _ _ am e32 ?_)
          refine hr_aload_n hC dX13_element_137 rfl ?_
          refine hr_iload_n hC dX13_element_138 rfl ?_
          obtain ⟨σ36, hσ36, h⟩ := hl_ok h
          refine hr_pI hC F14_16 PX13_16 dX13_element_139 q811 ?_
          rw [← hσ36]
          refine hr_aload_n hC dX13_element_142 rfl ?_
          refine hr_iload_n hC dX13_element_143 rfl ?_
          obtain ⟨σ37, hσ37, h⟩ := hl_ok h
          refine hr_pI hC F14_17 PX13_17 dX13_element_144 q812 ?_
          rw [← hσ37]
          refine hr_aload_n hC dX13_element_147 rfl ?_
          refine hr_iload hC dX13_element_148 rfl ?_
          obtain ⟨σ38, hσ38, h⟩ := hl_ok h
          refine hr_pI hC F14_18 PX13_18 dX13_element_150 q813 ?_
          rw [← hσ38]
          refine hr_iload hC dX13_element_153 rfl ?_
          refine hr_iconst (v := (-1)) hC dX13_element_155 rfl ?_
          obtain ⟨r41, e42, h⟩ := hx_bind h
          have J43 : hc_At hc_V0 E 6 X 172 [] [.int r41] σ38 am [] := by
            obtain rfl := Option.some.inj h
            exact hr_iret hC dX13_element_172
          clear h
          have h := e42
          refine hr_icmp_ne (x := _) hC 163 dX13_element_156 (by decide) (fun c40 => ?_) (fun c40 => ?_)
          · rw [if_neg c40] at h
            refine hr_aload_n hC dX13_element_163 rfl ?_
            refine hr_gO 6 hC F14_0 rfl dX13_element_164 q795 ?_
            refine hr_iload hC dX13_element_167 rfl ?_
            obtain ⟨r45, e46, h⟩ := hx_bind h
            refine hs_callV0 hC 6 [_] _ dX13_element_169 q2099 q1586 q1587 q320 q1588 np_X6 rfl OB_6 pd_X6_value (Nat.le_of_ble_eq_true rfl) hd1 (okX6_value l E A (d - 1)  (by omega)  e46 am) rfl ?_
            obtain rfl := Option.some.inj h
            exact hr_sub _ rfl (J43)
          · rw [if_pos c40] at h
            refine hr_iconst (v := 0) hC dX13_element_159 rfl ?_
            refine hr_goto hC 172 dX13_element_160 (by decide) ?_
            obtain rfl := Option.some.inj h
            exact hr_sub _ rfl (J43)
        refine hr_if_eq (x := _) hC 105 dX13_element_95 (by decide) (fun c51 => ?_) (fun c51 => ?_)
        · refine hr_iconst (v := 0) hC dX13_element_105 rfl ?_
          exact hr_sub _ rfl (J49 _ (by first | (rw [if_pos c51]; done) | (simp only [if_pos c51]; done) | rfl))
        · refine hr_aload_n hC dX13_element_98 rfl ?_
          refine hr_gI hC F14_17 dX13_element_99 q812 ?_
          refine hr_goto hC 106 dX13_element_102 (by decide) ?_
          exact hr_sub _ rfl (J49 _ (by first | (rw [if_neg c51]; done) | (simp only [if_neg c51]; done) | rfl))
      clear h
      have h := e13
      refine hr_if_eq (x := _) hC 84 dX13_element_74 (by decide) (fun c11 => ?_) (fun c11 => ?_)
      · rw [if_pos c11] at h
        refine hr_aload_n hC dX13_element_84 rfl ?_
        refine hr_gO 6 hC F14_0 rfl dX13_element_85 q795 ?_
        refine hr_iload_n hC dX13_element_88 rfl ?_
        obtain ⟨r16, e17, h⟩ := hx_bind h
        refine hs_callV0 hC 6 [_] _ dX13_element_89 q2048 q1576 q1577 q320 q1578 np_X6 rfl OB_6 pd_X6_first (Nat.le_of_ble_eq_true rfl) hd1 (okX6_first l E A (d - 1)  (by omega)  e17 am) rfl ?_
        obtain rfl := Option.some.inj h
        exact hr_sub _ rfl (J14)
      · rw [if_neg c11] at h
        refine hr_aload_n hC dX13_element_77 rfl ?_
        refine hr_gI hC F14_18 dX13_element_78 q813 ?_
        refine hr_goto hC 92 dX13_element_81 (by decide) ?_
        obtain rfl := Option.some.inj h
        exact hr_sub _ rfl (J14)
    refine hr_if_le (x := _) hC 71 dX13_element_48 (by decide) (fun c54 => ?_) (fun c54 => ?_)
    · refine hr_iconst (v := 0) hC dX13_element_71 rfl ?_
      exact hr_sub _ rfl (J52 _ (by first | (rw [if_pos c54]; done) | (simp only [if_pos c54]; done) | rfl))
    · refine hr_iload_n hC dX13_element_51 rfl ?_
      refine hr_aload_n hC dX13_element_52 rfl ?_
      refine hr_gI hC F14_16 dX13_element_53 q811 ?_
      refine hr_icmp_ne (x := _) hC 71 dX13_element_56 (by decide) (fun c55 => ?_) (fun c55 => ?_)
      · refine hr_iconst (v := 0) hC dX13_element_71 rfl ?_
        exact hr_sub _ rfl (J52 _ (by first | (rw [if_neg c54, if_neg c55]; done) | (simp only [if_neg c54, if_neg c55]; done) | rfl))
      · refine hr_iload_n hC dX13_element_59 rfl ?_
        refine hr_aload_n hC dX13_element_60 rfl ?_
        refine hr_gI hC F14_17 dX13_element_61 q812 ?_
        refine hr_icmp_lt (x := _) hC 71 dX13_element_64 (by decide) (fun c56 => ?_) (fun c56 => ?_)
        · refine hr_iconst (v := 0) hC dX13_element_71 rfl ?_
          exact hr_sub _ rfl (J52 _ (by first | (rw [if_neg c54, if_pos c55, if_pos c56]; done) | (simp only [if_neg c54, if_pos c55, if_pos c56]; done) | rfl))
        · refine hr_iconst (v := 1) hC dX13_element_67 rfl ?_
          refine hr_goto hC 72 dX13_element_68 (by decide) ?_
          exact hr_sub _ rfl (J52 _ (by first | (rw [if_neg c54, if_pos c55, if_neg c56]; done) | (simp only [if_neg c54, if_pos c55, if_neg c56]; done) | rfl))
  · rw [if_pos c6] at h
    refine hr_iload_n hC dX13_element_13 rfl ?_
    refine hr_aload_n hC dX13_element_14 rfl ?_
    refine hr_gO 6 hC F14_0 rfl dX13_element_15 q795 ?_
    refine hr_iload_n hC dX13_element_18 rfl ?_
    obtain ⟨r57, e58, h⟩ := hx_bind h
    refine hs_callV0 hC 6 [_] _ dX13_element_19 q1978 q1639 q1640 q320 q1641 np_X6 rfl OB_6 pd_X6_op (Nat.le_of_ble_eq_true rfl) hd1 (okX6_op l E A (d - 1)  (by omega)  e58 am) rfl ?_
    obtain ⟨r63, e64, h⟩ := hx_bind h
    have J65 : hc_At hc_V0 E 6 X 46 [] [.int r63] σ am [] := by
      obtain rfl := Option.some.inj h
      exact hr_iret hC dX13_element_46
    clear h
    have h := e64
    refine hr_icmp_ge (x := _) hC 45 dX13_element_22 (by decide) (fun c62 => ?_) (fun c62 => ?_)
    · rw [if_pos c62] at h
      refine hr_iconst (v := 0) hC dX13_element_45 rfl ?_
      obtain rfl := Option.some.inj h
      exact hr_sub _ rfl (J65)
    · rw [if_neg c62] at h
      refine hr_aload_n hC dX13_element_25 rfl ?_
      refine hr_gO 4 hC F14_4 rfl dX13_element_26 q799 ?_
      refine hr_aload_n hC dX13_element_29 rfl ?_
      refine hr_gO 6 hC F14_0 rfl dX13_element_30 q795 ?_
      refine hr_iload_n hC dX13_element_33 rfl ?_
      obtain ⟨r67, e68, h⟩ := hx_bind h
      refine hs_callV0 hC 6 [_] _ dX13_element_34 q2099 q1586 q1587 q320 q1588 np_X6 rfl OB_6 pd_X6_value (Nat.le_of_ble_eq_true rfl) hd1 (okX6_value l E A (d - 1)  (by omega)  e68 am) rfl ?_
      refine hr_iload_n hC dX13_element_37 rfl ?_
      refine hr_iadd hC dX13_element_38 ?_
      obtain ⟨r71, e72, h⟩ := hx_bind h
      refine hs_callV0 hC 4 [_] _ dX13_element_39 q2100 q1089 q1090 q318 q1091 np_X4 rfl OB_4 pd_X4_at (Nat.le_of_ble_eq_true rfl) hd1 (okX4_at l E A (d - 1)  (by omega) (by unfold hc_by; decide) e72 am) rfl ?_
      refine hr_goto hC 46 dX13_element_42 (by decide) ?_
      obtain rfl := Option.some.inj h
      exact hr_sub _ rfl (J65)
def lp_X13_begins_6 (n : Nat) : Nat → Int32 → Int32 → Int32 → Int32 → Int32 → hc_St → Option (hc_St × Int32)
  | 0, _, _, _, _, _, _ => none
  | m + 1, y1, y2, y3, y4, y5, σ => hl (α := Int32) ((if y2 = 0 then 1 else 4)) fun v3 => if v3 ≤ y5 then (some (σ, y4)) else (hl (α := Int32) ((if y2 = 0 then y3 else (((4 * y3)) + y5))) fun v8 => Option.bind (fm_X13_element n y1 v8 σ) fun r9 => hl (α := Int32) ((if y2 = 0 then r9.1 else (jshl ((r9.1 &&& 255)) ((8 * y5))))) fun v15 => lp_X13_begins_6 n m y1 y2 y3 ((y4 ||| v15)) ((y5 + 1)) r9.2)
/-- HomeCompiler$Generator.begins(IZI)I -/
def fm_X13_begins (n : Nat) (x1 : Int32) (x2 : Int32) (x3 : Int32) (σ : hc_St) : Option (Int32 × hc_St) := Option.bind (lp_X13_begins_6 n n x1 x2 x3 0 0 σ) fun r25 => some (r25.2, r25.1)
set_option maxRecDepth 20000 in
set_option maxHeartbeats 4000000 in
theorem ll_X13_begins_6 {l : Launch} {E : hc_E} {A : Nat → Prop} {am : Nat → Nat → Nat} {d : Nat} {X : hc_X} (n : Nat) (hD : 3 ≤ d) (hem : X.2.2.2.2.2.2.2.2.2.1.exceptionTable.isEmpty = true) {oc : hc_Oc} {σe : hc_St} (hC : hc_C hc_V0 E cX13_begins 8 RX13 (some .int) d oc σe (l, A, am, []) X) : ∀ (m : Nat) (σ : hc_St) (y1 : Int32) (y2 : Int32) (y3 : Int32) (y4 : Int32) (y5 : Int32) (rl : hc_St × Int32) (am1 : Nat → Nat → Nat), lp_X13_begins_6 n m y1 y2 y3 y4 y5 σ = some rl → (hc_At hc_V0 E 8 X 77 [(4, .int rl.2)] [] rl.1 am1 []) → hc_At hc_V0 E 8 X 6 [(0, .ref (E.2.1 14)), (1, .int y1), (2, .int y2), (3, .int y3), (4, .int y4), (5, .int y5)] [] σ am1 [] := by
  have hd1 : 1 ≤ d := by omega
  intro m
  induction m with
  | zero =>
    intro σ y1 y2 y3 y4 y5 rl am1 h
    cases h
  | succ m ih =>
    intro σ y1 y2 y3 y4 y5 rl am1 h JX
    rw [lp_X13_begins_6] at h
    refine hr_iload hC dX13_begins_6 rfl ?_
    refine hr_iload_n hC dX13_begins_8 rfl ?_
    obtain ⟨v3, hv3, h⟩ := hl_ok h
    have J22 : ∀ w23 : Int32, (if y2 = 0 then 1 else 4) = w23 → hc_At hc_V0 E 8 X 17 [(0, .ref (E.2.1 14)), (1, .int y1), (2, .int y2), (3, .int y3), (4, .int y4), (5, .int y5)] [.int w23, .int y5] σ am1 [] := by
      intro w23 hw23
      obtain rfl := hv3.trans hw23
      refine hr_icmp_ge (x := _) hC 77 dX13_begins_17 (by decide) (fun c5 => ?_) (fun c5 => ?_)
      · rw [if_pos c5] at h
        obtain rfl := Option.some.inj h
        exact hr_sub _ rfl (JX)
      · rw [if_neg c5] at h
        refine hr_iload_n hC dX13_begins_20 rfl ?_
        obtain ⟨v8, hv8, h⟩ := hl_ok h
        have J19 : ∀ w20 : Int32, (if y2 = 0 then y3 else (((4 * y3)) + y5)) = w20 → hc_At hc_V0 E 8 X 34 [(0, .ref (E.2.1 14)), (1, .int y1), (2, .int y2), (3, .int y3), (4, .int y4), (5, .int y5)] [.int w20] σ am1 [] := by
          intro w20 hw20
          obtain rfl := hv8.trans hw20
          refine hr_istore hC dX13_begins_34 (by decide) ?_
          refine hr_aload_n hC dX13_begins_36 rfl ?_
          refine hr_iload_n hC dX13_begins_37 rfl ?_
          refine hr_iload hC dX13_begins_38 rfl ?_
          obtain ⟨r9, e10, h⟩ := hx_bind h
          refine hs_callV0 hC 14 [_, _] _ dX13_begins_40 q2095 q2097 qs111 q327 q2098 np_X13 rfl OB_14 pd_X13_element (Nat.le_of_ble_eq_true rfl) hd1 (okX13_element l E A (d - 1) n (by omega)  e10 am1) rfl ?_
          refine hr_istore hC dX13_begins_43 (by decide) ?_
          refine hr_iload hC dX13_begins_45 rfl ?_
          refine hr_iload_n hC dX13_begins_47 rfl ?_
          obtain ⟨v15, hv15, h⟩ := hl_ok h
          have J16 : ∀ w17 : Int32, (if y2 = 0 then r9.1 else (jshl ((r9.1 &&& 255)) ((8 * y5)))) = w17 → hc_At hc_V0 E 8 X 68 [(0, .ref (E.2.1 14)), (1, .int y1), (2, .int y2), (3, .int y3), (5, .int y5)] [.int w17, .int y4] r9.2 am1 [] := by
            intro w17 hw17
            obtain rfl := hv15.trans hw17
            refine hr_ior hC dX13_begins_68 ?_
            refine hr_istore hC dX13_begins_69 (by decide) ?_
            refine hr_iinc (v := y5 + 1) hC dX13_begins_71 rfl rfl (by decide) ?_
            refine hr_goto hC 6 dX13_begins_74 (by decide) ?_
            exact hr_sub _ rfl (ih _ _ _ _ _ _ _ am1 h JX)
          refine hr_if_eq (x := _) hC 66 dX13_begins_48 (by decide) (fun c18 => ?_) (fun c18 => ?_)
          · refine hr_iload hC dX13_begins_66 rfl ?_
            exact hr_sub _ rfl (J16 _ (by first | (rw [if_pos c18]; done) | (simp only [if_pos c18]; done) | rfl))
          · refine hr_iload hC dX13_begins_51 rfl ?_
            refine hr_sipush (v := 255) hC dX13_begins_53 rfl ?_
            refine hr_iand hC dX13_begins_56 ?_
            refine hr_bipush (v := 8) hC dX13_begins_57 rfl ?_
            refine hr_iload hC dX13_begins_59 rfl ?_
            refine hr_imul hC dX13_begins_61 ?_
            refine hr_ishl hC dX13_begins_62 ?_
            refine hr_goto hC 68 dX13_begins_63 (by decide) ?_
            exact hr_sub _ rfl (J16 _ (by first | (rw [if_neg c18]; done) | (simp only [if_neg c18]; done) | rfl))
        refine hr_if_eq (x := _) hC 33 dX13_begins_21 (by decide) (fun c21 => ?_) (fun c21 => ?_)
        · refine hr_iload_n hC dX13_begins_33 rfl ?_
          exact hr_sub _ rfl (J19 _ (by first | (rw [if_pos c21]; done) | (simp only [if_pos c21]; done) | rfl))
        · refine hr_iconst (v := 4) hC dX13_begins_24 rfl ?_
          refine hr_iload_n hC dX13_begins_25 rfl ?_
          refine hr_imul hC dX13_begins_26 ?_
          refine hr_iload hC dX13_begins_27 rfl ?_
          refine hr_iadd hC dX13_begins_29 ?_
          refine hr_goto hC 34 dX13_begins_30 (by decide) ?_
          exact hr_sub _ rfl (J19 _ (by first | (rw [if_neg c21]; done) | (simp only [if_neg c21]; done) | rfl))
    refine hr_if_eq (x := _) hC 16 dX13_begins_9 (by decide) (fun c24 => ?_) (fun c24 => ?_)
    · refine hr_iconst (v := 1) hC dX13_begins_16 rfl ?_
      exact hr_sub _ rfl (J22 _ (by first | (rw [if_pos c24]; done) | (simp only [if_pos c24]; done) | rfl))
    · refine hr_iconst (v := 4) hC dX13_begins_12 rfl ?_
      refine hr_goto hC 17 dX13_begins_13 (by decide) ?_
      exact hr_sub _ rfl (J22 _ (by first | (rw [if_neg c24]; done) | (simp only [if_neg c24]; done) | rfl))
set_option maxRecDepth 20000 in
set_option maxHeartbeats 4000000 in
theorem okX13_begins (l : Launch) (E : hc_E) (A : Nat → Prop) (d : Nat) (n : Nat) (hD : 3 ≤ d) {x1 : Int32} {x2 : Int32} {x3 : Int32} {σ : hc_St} {r : (Int32 × hc_St)} (h : fm_X13_begins n x1 x2 x3 σ = some r) (am : Nat → Nat → Nat) : hc_M l hc_V0 yX13_begins (ws_ yX13_begins cX13_begins 8 (some .int)) d E A [.ref (E.2.1 14), .int x1, .int x2, .int x3] am [] σ (.inl (some (.int r.1))) r.2 := by
  have hd1 : 1 ≤ d := by omega
  refine hc_enter2 (own := RX13) [(0, .ref (E.2.1 14)), (1, .int x1), (2, .int x2), (3, .int x3)] pl_X13 rfl hc_V0_st hc_G0_nd rfl (Nat.le_of_ble_eq_true rfl) (fun X hC hem => ?_)
  unfold fm_X13_begins at h
  refine hr_iconst (v := 0) hC dX13_begins_0 rfl ?_
  refine hr_istore hC dX13_begins_1 (by decide) ?_
  refine hr_iconst (v := 0) hC dX13_begins_3 rfl ?_
  refine hr_istore hC dX13_begins_4 (by decide) ?_
  obtain ⟨r25, e26, h⟩ := hx_bind h
  refine hr_sub _ rfl (ll_X13_begins_6 n hD hem hC n _ _ _ _ _ _ _ am e26 ?_)
  refine hr_iload hC dX13_begins_77 rfl ?_
  obtain rfl := Option.some.inj h
  exact hr_iret hC dX13_begins_79
def lp_X1_variable_64 (n : Nat) : Nat → Int32 → Int32 → Int32 → Int32 → Int32 → hc_St → Option (hc_St)
  | 0, _, _, _, _, _, _ => none
  | m + 1, y2, y3, y5, y6, y7, σ => if y6 ≤ y7 then (some (σ)) else (Option.bind (fm_X13_begins n y5 y2 y7 σ) fun r53 => Option.bind (fm_X17_write ((y3 + ((4 * y7)))) r53.1 r53.2) fun r57 => lp_X1_variable_64 n m y2 y3 y5 y6 ((y7 + 1)) r57)
/-- HomeCompiler.variable(IZ)V -/
def fm_X1_variable (n : Nat) (x1 : Int32) (x2 : Int32) (σ : hc_St) : Option hc_St := Option.bind (fm_X6_extra x1 σ) fun r1 => Option.bind (fm_X13_address_2 r1 σ) fun r5 => Option.bind (fm_X6_first x1 σ) fun r9 => Option.bind (fm_X6_op x1 σ) fun r13 => Option.bind (α := hc_St) (if r13 = 1 then (Option.bind (fm_X6_next r9 σ) fun r43 => Option.bind (fm_X13_given n r43 x2 σ) fun r47 => Option.bind (lp_X1_variable_64 n n x2 r5 r43 r47 0 σ) fun r61 => some (r61)) else (if r9 = (-1) then (some (σ)) else (Option.bind (α := Int32) (if x2 = 0 then (Option.bind (fm_X6_value r9 σ) fun r31 => some (r31)) else (Option.bind (fm_X6_value r9 σ) fun r35 => some ((r35 &&& 255)))) fun r27 => Option.bind (fm_X17_write r5 r27 σ) fun r39 => some (r39)))) fun r19 => some r19
set_option maxRecDepth 20000 in
set_option maxHeartbeats 4000000 in
theorem ll_X1_variable_64 {l : Launch} {E : hc_E} {A : Nat → Prop} {am : Nat → Nat → Nat} {d : Nat} {X : hc_X} (n : Nat) (hD : 4 ≤ d) (hem : X.2.2.2.2.2.2.2.2.2.1.exceptionTable.isEmpty = true) {oc : hc_Oc} {σe : hc_St} (hC : hc_C hc_V0 E cX1_variable 8 RX1 none d oc σe (l, A, am, []) X) : ∀ (m : Nat) (σ : hc_St) (y2 : Int32) (y3 : Int32) (y5 : Int32) (y6 : Int32) (y7 : Int32) (rl : hc_St) (am1 : Nat → Nat → Nat), lp_X1_variable_64 n m y2 y3 y5 y6 y7 σ = some rl → (hc_At hc_V0 E 8 X 105 [] [] rl am1 []) → hc_At hc_V0 E 8 X 64 [(0, .ref (E.2.1 0)), (2, .int y2), (3, .int y3), (5, .int y5), (6, .int y6), (7, .int y7)] [] σ am1 [] := by
  have hd1 : 1 ≤ d := by omega
  intro m
  induction m with
  | zero =>
    intro σ y2 y3 y5 y6 y7 rl am1 h
    cases h
  | succ m ih =>
    intro σ y2 y3 y5 y6 y7 rl am1 h JX
    rw [lp_X1_variable_64] at h
    refine hr_iload hC dX1_variable_64 rfl ?_
    refine hr_iload hC dX1_variable_66 rfl ?_
    refine hr_icmp_ge (x := _) hC 105 dX1_variable_68 (by decide) (fun c52 => ?_) (fun c52 => ?_)
    · rw [if_pos c52] at h
      obtain rfl := Option.some.inj h
      exact hr_sub _ rfl (JX)
    · rw [if_neg c52] at h
      refine hr_aload_n hC dX1_variable_71 rfl ?_
      refine hr_gO 17 hC F0_9 rfl dX1_variable_72 q1000 ?_
      refine hr_gON 18 hC F17_0 rfl dX1_variable_75 (nl_1 hC.2.2.2.2.2.2.2.2.1) ?_
      refine hr_iload_n hC dX1_variable_78 rfl ?_
      refine hr_iconst (v := 4) hC dX1_variable_79 rfl ?_
      refine hr_iload hC dX1_variable_80 rfl ?_
      refine hr_imul hC dX1_variable_82 ?_
      refine hr_iadd hC dX1_variable_83 ?_
      refine hr_aload_n hC dX1_variable_84 rfl ?_
      refine hr_gO 14 hC F0_8 rfl dX1_variable_85 q999 ?_
      refine hr_iload hC dX1_variable_88 rfl ?_
      refine hr_iload_n hC dX1_variable_90 rfl ?_
      refine hr_iload hC dX1_variable_91 rfl ?_
      obtain ⟨r53, e54, h⟩ := hx_bind h
      refine hs_callV0 hC 14 [_, _, _] _ dX1_variable_93 q2477 q2092 q2093 q327 q2094 np_X13 rfl OB_14 pd_X13_begins (Nat.le_of_ble_eq_true rfl) hd1 (okX13_begins l E A (d - 1) n (by omega)  e54 am1) rfl ?_
      obtain ⟨r57, e58, h⟩ := hx_bind h
      refine hs_callV0 hC 18 [_, _] _ dX1_variable_96 q2342 q2343 q2344 q331 q2345 np_X17 rfl OB_18 pd_X17_write (Nat.le_of_ble_eq_true rfl) hd1 (okX17_write l E A (d - 1)  (by omega)  e58 am1) rfl ?_
      refine hr_iinc (v := y7 + 1) hC dX1_variable_99 rfl rfl (by decide) ?_
      refine hr_goto hC 64 dX1_variable_102 (by decide) ?_
      exact hr_sub _ rfl (ih _ _ _ _ _ _ _ am1 h JX)
set_option maxRecDepth 20000 in
set_option maxHeartbeats 4000000 in
theorem okX1_variable (l : Launch) (E : hc_E) (A : Nat → Prop) (d : Nat) (n : Nat) (hD : 4 ≤ d) {x1 : Int32} {x2 : Int32} {σ : hc_St} {r : hc_St} (h : fm_X1_variable n x1 x2 σ = some r) (am : Nat → Nat → Nat) : hc_M l hc_V0 yX1_variable (ws_ yX1_variable cX1_variable 8 none) d E A [.ref (E.2.1 0), .int x1, .int x2] am [] σ (.inl none) r := by
  have hd1 : 1 ≤ d := by omega
  refine hc_enter2 (own := RX1) [(0, .ref (E.2.1 0)), (1, .int x1), (2, .int x2)] pl_X1 rfl hc_V0_st hc_G0_nd rfl (Nat.le_of_ble_eq_true rfl) (fun X hC hem => ?_)
  unfold fm_X1_variable at h
  refine hr_aload_n hC dX1_variable_0 rfl ?_
  refine hr_gO 14 hC F0_8 rfl dX1_variable_1 q999 ?_
  refine hr_aload_n hC dX1_variable_4 rfl ?_
  refine hr_gO 6 hC F0_4 rfl dX1_variable_5 q995 ?_
  refine hr_iload_n hC dX1_variable_8 rfl ?_
  obtain ⟨r1, e2, h⟩ := hx_bind h
  refine hs_callV0 hC 6 [_] _ dX1_variable_9 q2470 q1687 q1688 q320 q1689 np_X6 rfl OB_6 pd_X6_extra (Nat.le_of_ble_eq_true rfl) hd1 (okX6_extra l E A (d - 1)  (by omega)  e2 am) rfl ?_
  obtain ⟨r5, e6, h⟩ := hx_bind h
  refine hs_callV0 hC 14 [_] _ dX1_variable_12 q2471 q2472 q2473 q327 q2474 np_X13 rfl OB_14 pd_X13_address_2 (Nat.le_of_ble_eq_true rfl) hd1 (okX13_address_2 l E A (d - 1)  (by omega)  e6 am) rfl ?_
  refine hr_istore_n hC dX1_variable_15 (by decide) ?_
  refine hr_aload_n hC dX1_variable_16 rfl ?_
  refine hr_gO 6 hC F0_4 rfl dX1_variable_17 q995 ?_
  refine hr_iload_n hC dX1_variable_20 rfl ?_
  obtain ⟨r9, e10, h⟩ := hx_bind h
  refine hs_callV0 hC 6 [_] _ dX1_variable_21 q2463 q1576 q1577 q320 q1578 np_X6 rfl OB_6 pd_X6_first (Nat.le_of_ble_eq_true rfl) hd1 (okX6_first l E A (d - 1)  (by omega)  e10 am) rfl ?_
  refine hr_istore hC dX1_variable_24 (by decide) ?_
  refine hr_aload_n hC dX1_variable_26 rfl ?_
  refine hr_gO 6 hC F0_4 rfl dX1_variable_27 q995 ?_
  refine hr_iload_n hC dX1_variable_30 rfl ?_
  obtain ⟨r13, e14, h⟩ := hx_bind h
  refine hs_callV0 hC 6 [_] _ dX1_variable_31 q2465 q1639 q1640 q320 q1641 np_X6 rfl OB_6 pd_X6_op (Nat.le_of_ble_eq_true rfl) hd1 (okX6_op l E A (d - 1)  (by omega)  e14 am) rfl ?_
  refine hr_iconst (v := 1) hC dX1_variable_34 rfl ?_
  obtain ⟨r19, e20, h⟩ := hx_bind h
  have J21 : hc_At hc_V0 E 8 X 154 [] [] r19 am [] := by
    obtain rfl := Option.some.inj h
    exact hr_vret hC dX1_variable_154
  clear h
  have h := e20
  refine hr_icmp_ne (x := _) hC 108 dX1_variable_35 (by decide) (fun c18 => ?_) (fun c18 => ?_)
  · rw [if_neg c18] at h
    refine hr_iload hC dX1_variable_108 rfl ?_
    refine hr_iconst (v := (-1)) hC dX1_variable_110 rfl ?_
    refine hr_icmp_eq (x := _) hC 154 dX1_variable_111 (by decide) (fun c24 => ?_) (fun c24 => ?_)
    · rw [if_pos c24] at h
      obtain rfl := Option.some.inj h
      exact hr_sub _ rfl (J21)
    · rw [if_neg c24] at h
      refine hr_aload_n hC dX1_variable_114 rfl ?_
      refine hr_gO 17 hC F0_9 rfl dX1_variable_115 q1000 ?_
      refine hr_gON 18 hC F17_0 rfl dX1_variable_118 (nl_1 hC.2.2.2.2.2.2.2.2.1) ?_
      refine hr_iload_n hC dX1_variable_121 rfl ?_
      refine hr_iload_n hC dX1_variable_122 rfl ?_
      obtain ⟨r27, e28, h⟩ := hx_bind h
      have J29 : hc_At hc_V0 E 8 X 151 [] [.int r27, .int r5, .ref (E.2.1 18)] σ am [] := by
        obtain ⟨r39, e40, h⟩ := hx_bind h
        refine hs_callV0 hC 18 [_, _] _ dX1_variable_151 q2342 q2343 q2344 q331 q2345 np_X17 rfl OB_18 pd_X17_write (Nat.le_of_ble_eq_true rfl) hd1 (okX17_write l E A (d - 1)  (by omega)  e40 am) rfl ?_
        obtain rfl := Option.some.inj h
        exact hr_sub _ rfl (J21)
      clear h
      have h := e28
      refine hr_if_eq (x := _) hC 142 dX1_variable_123 (by decide) (fun c26 => ?_) (fun c26 => ?_)
      · rw [if_pos c26] at h
        refine hr_aload_n hC dX1_variable_142 rfl ?_
        refine hr_gO 6 hC F0_4 rfl dX1_variable_143 q995 ?_
        refine hr_iload hC dX1_variable_146 rfl ?_
        obtain ⟨r31, e32, h⟩ := hx_bind h
        refine hs_callV0 hC 6 [_] _ dX1_variable_148 q2478 q1586 q1587 q320 q1588 np_X6 rfl OB_6 pd_X6_value (Nat.le_of_ble_eq_true rfl) hd1 (okX6_value l E A (d - 1)  (by omega)  e32 am) rfl ?_
        obtain rfl := Option.some.inj h
        exact hr_sub _ rfl (J29)
      · rw [if_neg c26] at h
        refine hr_aload_n hC dX1_variable_126 rfl ?_
        refine hr_gO 6 hC F0_4 rfl dX1_variable_127 q995 ?_
        refine hr_iload hC dX1_variable_130 rfl ?_
        obtain ⟨r35, e36, h⟩ := hx_bind h
        refine hs_callV0 hC 6 [_] _ dX1_variable_132 q2478 q1586 q1587 q320 q1588 np_X6 rfl OB_6 pd_X6_value (Nat.le_of_ble_eq_true rfl) hd1 (okX6_value l E A (d - 1)  (by omega)  e36 am) rfl ?_
        refine hr_sipush (v := 255) hC dX1_variable_135 rfl ?_
        refine hr_iand hC dX1_variable_138 ?_
        refine hr_goto hC 151 dX1_variable_139 (by decide) ?_
        obtain rfl := Option.some.inj h
        exact hr_sub _ rfl (J29)
  · rw [if_pos c18] at h
    refine hr_aload_n hC dX1_variable_38 rfl ?_
    refine hr_gO 6 hC F0_4 rfl dX1_variable_39 q995 ?_
    refine hr_iload hC dX1_variable_42 rfl ?_
    obtain ⟨r43, e44, h⟩ := hx_bind h
    refine hs_callV0 hC 6 [_] _ dX1_variable_44 q2475 q1603 q1604 q320 q1605 np_X6 rfl OB_6 pd_X6_next (Nat.le_of_ble_eq_true rfl) hd1 (okX6_next l E A (d - 1)  (by omega)  e44 am) rfl ?_
    refine hr_istore hC dX1_variable_47 (by decide) ?_
    refine hr_aload_n hC dX1_variable_49 rfl ?_
    refine hr_gO 14 hC F0_8 rfl dX1_variable_50 q999 ?_
    refine hr_iload hC dX1_variable_53 rfl ?_
    refine hr_iload_n hC dX1_variable_55 rfl ?_
    obtain ⟨r47, e48, h⟩ := hx_bind h
    refine hs_callV0 hC 14 [_, _] _ dX1_variable_56 q2476 q2087 q2088 q327 q2089 np_X13 rfl OB_14 pd_X13_given (Nat.le_of_ble_eq_true rfl) hd1 (okX13_given l E A (d - 1) n (by omega)  e48 am) rfl ?_
    refine hr_istore hC dX1_variable_59 (by decide) ?_
    refine hr_iconst (v := 0) hC dX1_variable_61 rfl ?_
    refine hr_istore hC dX1_variable_62 (by decide) ?_
    obtain ⟨r61, e62, h⟩ := hx_bind h
    refine hr_sub _ rfl (ll_X1_variable_64 n hD hem hC n _ _ _ _ _ _ _ am e62 ?_)
    refine hr_goto hC 154 dX1_variable_105 (by decide) ?_
    obtain rfl := Option.some.inj h
    exact hr_sub _ rfl (J21)
def lp_X1_begin_2 (n : Nat) : Nat → Int32 → hc_St → Option (hc_St)
  | 0, _, _ => none
  | m + 1, y1, σ => if (gI σ 0 14) ≤ y1 then (some (σ)) else (Option.bind (fm_X17_write ((4096 + ((4 * y1)))) 0 σ) fun r3 => lp_X1_begin_2 n m ((y1 + 1)) r3)
def lp_X1_begin_77 (n : Nat) : Nat → Int32 → Int32 → hc_St → Option (hc_St)
  | 0, _, _, _ => none
  | m + 1, y1, y2, σ => if y2 = (-1) then (some (σ)) else (Option.bind (fm_X6_op y1 σ) fun r34 => hl (α := Int32) ((if r34 = 1 then 1 else 0)) fun v40 => Option.bind (fm_X1_variable n y2 v40 σ) fun r41 => Option.bind (fm_X6_next y2 r41) fun r45 => lp_X1_begin_77 n m y1 r45 r41)
def lp_X1_begin_46 (n : Nat) : Nat → Int32 → hc_St → Option (hc_St)
  | 0, _, _ => none
  | m + 1, y1, σ => if y1 = (-1) then (some (σ)) else (Option.bind (fm_X6_kind y1 σ) fun r18 => Option.bind (α := Int32) (if r18 = 6 then (Option.bind (fm_X6_first y1 σ) fun r28 => some (r28)) else (some ((-1)))) fun r24 => Option.bind (lp_X1_begin_77 n n y1 r24 σ) fun r52 => Option.bind (fm_X6_next y1 r52) fun r57 => lp_X1_begin_46 n m r57 r52)
/-- HomeCompiler.begin()V -/
def fm_X1_begin (n : Nat)  (σ : hc_St) : Option hc_St := Option.bind (lp_X1_begin_2 n n 0 σ) fun r7 => Option.bind (fm_X6_first ((gI r7 0 11)) r7) fun r12 => Option.bind (lp_X1_begin_46 n n r12 r7) fun r61 => some r61
set_option maxRecDepth 20000 in
set_option maxHeartbeats 4000000 in
theorem ll_X1_begin_2 {l : Launch} {E : hc_E} {A : Nat → Prop} {am : Nat → Nat → Nat} {d : Nat} {X : hc_X} (n : Nat) (hD : 5 ≤ d) (hem : X.2.2.2.2.2.2.2.2.2.1.exceptionTable.isEmpty = true) {oc : hc_Oc} {σe : hc_St} (hC : hc_C hc_V0 E cX1_begin 3 RX1 none d oc σe (l, A, am, []) X) : ∀ (m : Nat) (σ : hc_St) (y1 : Int32) (rl : hc_St) (am1 : Nat → Nat → Nat), lp_X1_begin_2 n m y1 σ = some rl → (hc_At hc_V0 E 3 X 34 [(0, .ref (E.2.1 0))] [] rl am1 []) → hc_At hc_V0 E 3 X 2 [(0, .ref (E.2.1 0)), (1, .int y1)] [] σ am1 [] := by
  have hd1 : 1 ≤ d := by omega
  intro m
  induction m with
  | zero =>
    intro σ y1 rl am1 h
    cases h
  | succ m ih =>
    intro σ y1 rl am1 h JX
    rw [lp_X1_begin_2] at h
    refine hr_iload_n hC dX1_begin_2 rfl ?_
    refine hr_aload_n hC dX1_begin_3 rfl ?_
    refine hr_gI hC F0_14 dX1_begin_4 q1005 ?_
    refine hr_icmp_ge (x := _) hC 34 dX1_begin_7 (by decide) (fun c2 => ?_) (fun c2 => ?_)
    · rw [if_pos c2] at h
      obtain rfl := Option.some.inj h
      exact hr_sub _ rfl (JX)
    · rw [if_neg c2] at h
      refine hr_aload_n hC dX1_begin_10 rfl ?_
      refine hr_gO 17 hC F0_9 rfl dX1_begin_11 q1000 ?_
      refine hr_gON 18 hC F17_0 rfl dX1_begin_14 (nl_1 hC.2.2.2.2.2.2.2.2.1) ?_
      refine hr_sipush (v := 4096) hC dX1_begin_17 rfl ?_
      refine hr_iconst (v := 4) hC dX1_begin_20 rfl ?_
      refine hr_iload_n hC dX1_begin_21 rfl ?_
      refine hr_imul hC dX1_begin_22 ?_
      refine hr_iadd hC dX1_begin_23 ?_
      refine hr_iconst (v := 0) hC dX1_begin_24 rfl ?_
      obtain ⟨r3, e4, h⟩ := hx_bind h
      refine hs_callV0 hC 18 [_, _] _ dX1_begin_25 q2342 q2343 q2344 q331 q2345 np_X17 rfl OB_18 pd_X17_write (Nat.le_of_ble_eq_true rfl) hd1 (okX17_write l E A (d - 1)  (by omega)  e4 am1) rfl ?_
      refine hr_iinc (v := y1 + 1) hC dX1_begin_28 rfl rfl (by decide) ?_
      refine hr_goto hC 2 dX1_begin_31 (by decide) ?_
      exact hr_sub _ rfl (ih _ _ _ am1 h JX)
set_option maxRecDepth 20000 in
set_option maxHeartbeats 4000000 in
theorem ll_X1_begin_77 {l : Launch} {E : hc_E} {A : Nat → Prop} {am : Nat → Nat → Nat} {d : Nat} {X : hc_X} (n : Nat) (hD : 5 ≤ d) (hem : X.2.2.2.2.2.2.2.2.2.1.exceptionTable.isEmpty = true) {oc : hc_Oc} {σe : hc_St} (hC : hc_C hc_V0 E cX1_begin 3 RX1 none d oc σe (l, A, am, []) X) : ∀ (m : Nat) (σ : hc_St) (y1 : Int32) (y2 : Int32) (rl : hc_St) (am1 : Nat → Nat → Nat), lp_X1_begin_77 n m y1 y2 σ = some rl → (hc_At hc_V0 E 3 X 116 [(0, .ref (E.2.1 0)), (1, .int y1)] [] rl am1 []) → hc_At hc_V0 E 3 X 77 [(0, .ref (E.2.1 0)), (1, .int y1), (2, .int y2)] [] σ am1 [] := by
  have hd1 : 1 ≤ d := by omega
  intro m
  induction m with
  | zero =>
    intro σ y1 y2 rl am1 h
    cases h
  | succ m ih =>
    intro σ y1 y2 rl am1 h JX
    rw [lp_X1_begin_77] at h
    refine hr_iload_n hC dX1_begin_77 rfl ?_
    refine hr_iconst (v := (-1)) hC dX1_begin_78 rfl ?_
    refine hr_icmp_eq (x := _) hC 116 dX1_begin_79 (by decide) (fun c33 => ?_) (fun c33 => ?_)
    · rw [if_pos c33] at h
      obtain rfl := Option.some.inj h
      exact hr_sub _ rfl (JX)
    · rw [if_neg c33] at h
      refine hr_aload_n hC dX1_begin_82 rfl ?_
      refine hr_iload_n hC dX1_begin_83 rfl ?_
      refine hr_aload_n hC dX1_begin_84 rfl ?_
      refine hr_gO 6 hC F0_4 rfl dX1_begin_85 q995 ?_
      refine hr_iload_n hC dX1_begin_88 rfl ?_
      obtain ⟨r34, e35, h⟩ := hx_bind h
      refine hs_callV0 hC 6 [_] _ dX1_begin_89 q2465 q1639 q1640 q320 q1641 np_X6 rfl OB_6 pd_X6_op (Nat.le_of_ble_eq_true rfl) hd1 (okX6_op l E A (d - 1)  (by omega)  e35 am1) rfl ?_
      refine hr_iconst (v := 1) hC dX1_begin_92 rfl ?_
      obtain ⟨v40, hv40, h⟩ := hl_ok h
      have J49 : ∀ w50 : Int32, (if r34 = 1 then 1 else 0) = w50 → hc_At hc_V0 E 3 X 101 [(0, .ref (E.2.1 0)), (1, .int y1), (2, .int y2)] [.int w50, .int y2, .ref (E.2.1 0)] σ am1 [] := by
        intro w50 hw50
        obtain rfl := hv40.trans hw50
        obtain ⟨r41, e42, h⟩ := hx_bind h
        refine hs_callV0 hC 0 [_, _] _ dX1_begin_101 q2466 q2468 qs156 q315 q2469 np_X1 rfl OB_0 pd_X1_variable (Nat.le_of_ble_eq_true rfl) hd1 (okX1_variable l E A (d - 1) n (by omega)  e42 am1) rfl ?_
        refine hr_aload_n hC dX1_begin_104 rfl ?_
        refine hr_gO 6 hC F0_4 rfl dX1_begin_105 q995 ?_
        refine hr_iload_n hC dX1_begin_108 rfl ?_
        obtain ⟨r45, e46, h⟩ := hx_bind h
        refine hs_callV0 hC 6 [_] _ dX1_begin_109 q2475 q1603 q1604 q320 q1605 np_X6 rfl OB_6 pd_X6_next (Nat.le_of_ble_eq_true rfl) hd1 (okX6_next l E A (d - 1)  (by omega)  e46 am1) rfl ?_
        refine hr_istore_n hC dX1_begin_112 (by decide) ?_
        refine hr_goto hC 77 dX1_begin_113 (by decide) ?_
        exact hr_sub _ rfl (ih _ _ _ _ am1 h JX)
      refine hr_icmp_ne (x := _) hC 100 dX1_begin_93 (by decide) (fun c51 => ?_) (fun c51 => ?_)
      · refine hr_iconst (v := 0) hC dX1_begin_100 rfl ?_
        exact hr_sub _ rfl (J49 _ (by first | (rw [if_neg c51]; done) | (simp only [if_neg c51]; done) | rfl))
      · refine hr_iconst (v := 1) hC dX1_begin_96 rfl ?_
        refine hr_goto hC 101 dX1_begin_97 (by decide) ?_
        exact hr_sub _ rfl (J49 _ (by first | (rw [if_pos c51]; done) | (simp only [if_pos c51]; done) | rfl))
set_option maxRecDepth 20000 in
set_option maxHeartbeats 4000000 in
theorem ll_X1_begin_46 {l : Launch} {E : hc_E} {A : Nat → Prop} {am : Nat → Nat → Nat} {d : Nat} {X : hc_X} (n : Nat) (hD : 5 ≤ d) (hem : X.2.2.2.2.2.2.2.2.2.1.exceptionTable.isEmpty = true) {oc : hc_Oc} {σe : hc_St} (hC : hc_C hc_V0 E cX1_begin 3 RX1 none d oc σe (l, A, am, []) X) : ∀ (m : Nat) (σ : hc_St) (y1 : Int32) (rl : hc_St) (am1 : Nat → Nat → Nat), lp_X1_begin_46 n m y1 σ = some rl → (hc_At hc_V0 E 3 X 128 [] [] rl am1 []) → hc_At hc_V0 E 3 X 46 [(0, .ref (E.2.1 0)), (1, .int y1)] [] σ am1 [] := by
  have hd1 : 1 ≤ d := by omega
  intro m
  induction m with
  | zero =>
    intro σ y1 rl am1 h
    cases h
  | succ m ih =>
    intro σ y1 rl am1 h JX
    rw [lp_X1_begin_46] at h
    refine hr_iload_n hC dX1_begin_46 rfl ?_
    refine hr_iconst (v := (-1)) hC dX1_begin_47 rfl ?_
    refine hr_icmp_eq (x := _) hC 128 dX1_begin_48 (by decide) (fun c17 => ?_) (fun c17 => ?_)
    · rw [if_pos c17] at h
      obtain rfl := Option.some.inj h
      exact hr_sub _ rfl (JX)
    · rw [if_neg c17] at h
      refine hr_aload_n hC dX1_begin_51 rfl ?_
      refine hr_gO 6 hC F0_4 rfl dX1_begin_52 q995 ?_
      refine hr_iload_n hC dX1_begin_55 rfl ?_
      obtain ⟨r18, e19, h⟩ := hx_bind h
      refine hs_callV0 hC 6 [_] _ dX1_begin_56 q2464 q1369 q1370 q320 q1371 np_X6 rfl OB_6 pd_X6_kind (Nat.le_of_ble_eq_true rfl) hd1 (okX6_kind l E A (d - 1)  (by omega)  e19 am1) rfl ?_
      refine hr_bipush (v := 6) hC dX1_begin_59 rfl ?_
      obtain ⟨r24, e25, h⟩ := hx_bind h
      have J26 : hc_At hc_V0 E 3 X 76 [(0, .ref (E.2.1 0)), (1, .int y1)] [.int r24] σ am1 [] := by
        refine hr_istore_n hC dX1_begin_76 (by decide) ?_
        obtain ⟨r52, e53, h⟩ := hx_bind h
        refine hr_sub _ rfl (ll_X1_begin_77 n hD hem hC n _ _ _ _ am1 e53 ?_)
        refine hr_aload_n hC dX1_begin_116 rfl ?_
        refine hr_gO 6 hC F0_4 rfl dX1_begin_117 q995 ?_
        refine hr_iload_n hC dX1_begin_120 rfl ?_
        obtain ⟨r57, e58, h⟩ := hx_bind h
        refine hs_callV0 hC 6 [_] _ dX1_begin_121 q2475 q1603 q1604 q320 q1605 np_X6 rfl OB_6 pd_X6_next (Nat.le_of_ble_eq_true rfl) hd1 (okX6_next l E A (d - 1)  (by omega)  e58 am1) rfl ?_
        refine hr_istore_n hC dX1_begin_124 (by decide) ?_
        refine hr_goto hC 46 dX1_begin_125 (by decide) ?_
        exact hr_sub _ rfl (ih _ _ _ am1 h JX)
      clear h
      have h := e25
      refine hr_icmp_ne (x := _) hC 75 dX1_begin_61 (by decide) (fun c23 => ?_) (fun c23 => ?_)
      · rw [if_neg c23] at h
        refine hr_iconst (v := (-1)) hC dX1_begin_75 rfl ?_
        obtain rfl := Option.some.inj h
        exact hr_sub _ rfl (J26)
      · rw [if_pos c23] at h
        refine hr_aload_n hC dX1_begin_64 rfl ?_
        refine hr_gO 6 hC F0_4 rfl dX1_begin_65 q995 ?_
        refine hr_iload_n hC dX1_begin_68 rfl ?_
        obtain ⟨r28, e29, h⟩ := hx_bind h
        refine hs_callV0 hC 6 [_] _ dX1_begin_69 q2463 q1576 q1577 q320 q1578 np_X6 rfl OB_6 pd_X6_first (Nat.le_of_ble_eq_true rfl) hd1 (okX6_first l E A (d - 1)  (by omega)  e29 am1) rfl ?_
        refine hr_goto hC 76 dX1_begin_72 (by decide) ?_
        obtain rfl := Option.some.inj h
        exact hr_sub _ rfl (J26)
set_option maxRecDepth 20000 in
set_option maxHeartbeats 4000000 in
theorem okX1_begin (l : Launch) (E : hc_E) (A : Nat → Prop) (d : Nat) (n : Nat) (hD : 5 ≤ d)  {σ : hc_St} {r : hc_St} (h : fm_X1_begin n  σ = some r) (am : Nat → Nat → Nat) : hc_M l hc_V0 yX1_begin (ws_ yX1_begin cX1_begin 3 none) d E A [.ref (E.2.1 0)] am [] σ (.inl none) r := by
  have hd1 : 1 ≤ d := by omega
  refine hc_enter2 (own := RX1) [(0, .ref (E.2.1 0))] pl_X1 rfl hc_V0_st hc_G0_nd rfl (Nat.le_of_ble_eq_true rfl) (fun X hC hem => ?_)
  unfold fm_X1_begin at h
  refine hr_iconst (v := 0) hC dX1_begin_0 rfl ?_
  refine hr_istore_n hC dX1_begin_1 (by decide) ?_
  obtain ⟨r7, e8, h⟩ := hx_bind h
  refine hr_sub _ rfl (ll_X1_begin_2 n hD hem hC n _ _ _ am e8 ?_)
  refine hr_aload_n hC dX1_begin_34 rfl ?_
  refine hr_gO 6 hC F0_4 rfl dX1_begin_35 q995 ?_
  refine hr_aload_n hC dX1_begin_38 rfl ?_
  refine hr_gI hC F0_11 dX1_begin_39 q1002 ?_
  obtain ⟨r12, e13, h⟩ := hx_bind h
  refine hs_callV0 hC 6 [_] _ dX1_begin_42 q2463 q1576 q1577 q320 q1578 np_X6 rfl OB_6 pd_X6_first (Nat.le_of_ble_eq_true rfl) hd1 (okX6_first l E A (d - 1)  (by omega)  e13 am) rfl ?_
  refine hr_istore_n hC dX1_begin_45 (by decide) ?_
  obtain ⟨r61, e62, h⟩ := hx_bind h
  refine hr_sub _ rfl (ll_X1_begin_46 n hD hem hC n _ _ _ am e62 ?_)
  obtain rfl := Option.some.inj h
  exact hr_vret hC dX1_begin_128
/-- HomeCompiler$Controls.due()I -/
def fm_X18_due   (σ : hc_St) : Option Int32 := hk (inb 8 (gL σ 19 0)) <| Option.bind (α := Int32) (if (gC σ 19 0 8) = 0 then (some (1)) else (hk (inb 7 (gL σ 19 0)) <| if (gC σ 19 0 7) = 0 then (some (2)) else (some (0)))) fun r4 => some r4
set_option maxRecDepth 20000 in
set_option maxHeartbeats 4000000 in
theorem okX18_due (l : Launch) (E : hc_E) (A : Nat → Prop) (d : Nat)  (hD : 1 ≤ d)  {σ : hc_St} {r : Int32} (h : fm_X18_due   σ = some r) (am : Nat → Nat → Nat) : hc_M l hc_V0 yX18_due (ws_ yX18_due cX18_due 1 (some .int)) d E A [.ref (E.2.1 19)] am [] σ (.inl (some (.int r))) σ := by
  have hd1 : 1 ≤ d := by omega
  refine hc_enter2 (own := RX18) [(0, .ref (E.2.1 19))] pl_X18 rfl hc_V0_st hc_G0_nd rfl (Nat.le_of_ble_eq_true rfl) (fun X hC hem => ?_)
  unfold fm_X18_due at h
  refine hr_aload_n hC dX18_due_0 rfl ?_
  refine hr_gA hC F19_0 rfl dX18_due_1 q888 ?_
  refine hr_bipush (v := 8) hC dX18_due_4 rfl ?_
  obtain ⟨c1, h⟩ := hk_ok h
  refine hs_iald hC A19_0 c1 dX18_due_6 ?_
  obtain ⟨r4, e5, h⟩ := hx_bind h
  have J6 : hc_At hc_V0 E 1 X 29 [] [.int r4] σ am [] := by
    obtain rfl := Option.some.inj h
    exact hr_iret hC dX18_due_29
  clear h
  have h := e5
  refine hr_if_ne (x := _) hC 14 dX18_due_7 (by decide) (fun c3 => ?_) (fun c3 => ?_)
  · rw [if_neg c3] at h
    refine hr_aload_n hC dX18_due_14 rfl ?_
    refine hr_gA hC F19_0 rfl dX18_due_15 q888 ?_
    refine hr_bipush (v := 7) hC dX18_due_18 rfl ?_
    obtain ⟨c8, h⟩ := hk_ok h
    refine hs_iald hC A19_0 c8 dX18_due_20 ?_
    refine hr_if_ne (x := _) hC 28 dX18_due_21 (by decide) (fun c10 => ?_) (fun c10 => ?_)
    · rw [if_neg c10] at h
      refine hr_iconst (v := 0) hC dX18_due_28 rfl ?_
      obtain rfl := Option.some.inj h
      exact hr_sub _ rfl (J6)
    · rw [if_pos c10] at h
      refine hr_iconst (v := 2) hC dX18_due_24 rfl ?_
      refine hr_goto hC 29 dX18_due_25 (by decide) ?_
      obtain rfl := Option.some.inj h
      exact hr_sub _ rfl (J6)
  · rw [if_pos c3] at h
    refine hr_iconst (v := 1) hC dX18_due_10 rfl ?_
    refine hr_goto hC 29 dX18_due_11 (by decide) ?_
    obtain rfl := Option.some.inj h
    exact hr_sub _ rfl (J6)
/-- HomeCompiler$Controls.set(II)V -/
def fm_X18_set  (x1 : Int32) (x2 : Int32) (σ : hc_St) : Option hc_St := hl (α := Int32) ((if x1 = 0 then (x2 &&& 262400) else (if x1 = 1 then (x2 &&& ((-4))) else (if x1 = 3 then (x2 &&& ((-4))) else x2)))) fun v3 => hk (inb x1 (gL σ 19 0)) <| hl (pC σ 19 0 x1 v3) fun σ5 => some σ5
set_option maxRecDepth 20000 in
set_option maxHeartbeats 4000000 in
theorem okX18_set (l : Launch) (E : hc_E) (A : Nat → Prop) (d : Nat)  (hD : 1 ≤ d) {x1 : Int32} {x2 : Int32} {σ : hc_St} {r : hc_St} (h : fm_X18_set  x1 x2 σ = some r) (am : Nat → Nat → Nat) : hc_M l hc_V0 yX18_set (ws_ yX18_set cX18_set 3 none) d E A [.ref (E.2.1 19), .int x1, .int x2] am [] σ (.inl none) r := by
  have hd1 : 1 ≤ d := by omega
  refine hc_enter2 (own := RX18) [(0, .ref (E.2.1 19)), (1, .int x1), (2, .int x2)] pl_X18 rfl hc_V0_st hc_G0_nd rfl (Nat.le_of_ble_eq_true rfl) (fun X hC hem => ?_)
  unfold fm_X18_set at h
  refine hr_aload_n hC dX18_set_0 rfl ?_
  refine hr_gA hC F19_0 rfl dX18_set_1 q888 ?_
  refine hr_iload_n hC dX18_set_4 rfl ?_
  refine hr_iload_n hC dX18_set_5 rfl ?_
  obtain ⟨v3, hv3, h⟩ := hl_ok h
  have J6 : ∀ w7 : Int32, (if x1 = 0 then (x2 &&& 262400) else (if x1 = 1 then (x2 &&& ((-4))) else (if x1 = 3 then (x2 &&& ((-4))) else x2))) = w7 → hc_At hc_V0 E 3 X 34 [] [.int w7, .int x1, .ref (am 19 0)] σ am [] := by
    intro w7 hw7
    obtain rfl := hv3.trans hw7
    obtain ⟨c4, h⟩ := hk_ok h
    obtain ⟨σ5, hσ5, h⟩ := hl_ok h
    refine hs_iast hC A19_0 c4 dX18_set_34 ?_
    rw [← hσ5]
    obtain rfl := Option.some.inj h
    exact hr_vret hC dX18_set_35
  refine hr_if_ne (x := _) hC 16 dX18_set_6 (by decide) (fun c8 => ?_) (fun c8 => ?_)
  · refine hr_iload_n hC dX18_set_16 rfl ?_
    refine hr_iconst (v := 1) hC dX18_set_17 rfl ?_
    refine hr_icmp_eq (x := _) hC 26 dX18_set_18 (by decide) (fun c9 => ?_) (fun c9 => ?_)
    · refine hr_iload_n hC dX18_set_26 rfl ?_
      refine hr_bipush (v := (-4)) hC dX18_set_27 rfl ?_
      refine hr_iand hC dX18_set_29 ?_
      refine hr_goto hC 34 dX18_set_30 (by decide) ?_
      exact hr_sub _ rfl (J6 _ (by first | (rw [if_neg c8, if_pos c9]; done) | (simp only [if_neg c8, if_pos c9]; done) | rfl))
    · refine hr_iload_n hC dX18_set_21 rfl ?_
      refine hr_iconst (v := 3) hC dX18_set_22 rfl ?_
      refine hr_icmp_ne (x := _) hC 33 dX18_set_23 (by decide) (fun c10 => ?_) (fun c10 => ?_)
      · refine hr_iload_n hC dX18_set_33 rfl ?_
        exact hr_sub _ rfl (J6 _ (by first | (rw [if_neg c8, if_neg c9, if_neg c10]; done) | (simp only [if_neg c8, if_neg c9, if_neg c10]; done) | rfl))
      · refine hr_iload_n hC dX18_set_26 rfl ?_
        refine hr_bipush (v := (-4)) hC dX18_set_27 rfl ?_
        refine hr_iand hC dX18_set_29 ?_
        refine hr_goto hC 34 dX18_set_30 (by decide) ?_
        exact hr_sub _ rfl (J6 _ (by first | (rw [if_neg c8, if_neg c9, if_pos c10]; done) | (simp only [if_neg c8, if_neg c9, if_pos c10]; done) | rfl))
  · refine hr_iload_n hC dX18_set_9 rfl ?_
    refine hr_ldc hC dX18_set_10 q2505 ?_
    refine hr_iand hC dX18_set_12 ?_
    refine hr_goto hC 34 dX18_set_13 (by decide) ?_
    exact hr_sub _ rfl (J6 _ (by first | (rw [if_pos c8]; done) | (simp only [if_pos c8]; done) | rfl))
/-- HomeCompiler$Controls.trap(IIII)I -/
def fm_X18_trap  (x1 : Int32) (x2 : Int32) (x3 : Int32) (x4 : Int32) (σ : hc_St) : Option (Int32 × hc_St) := Option.bind (fm_X18_set 3 x1 σ) fun r1 => hk (inb 4 (gL r1 19 0)) <| hl (pC r1 19 0 4 x2) fun σ6 => hk (inb 5 (gL σ6 19 0)) <| hl (pC σ6 19 0 5 x3) fun σ8 => hk (inb 0 (gL σ8 19 0)) <| hl (α := Int32) ((if x4 = 0 then 0 else 256)) fun v12 => hk (inb 0 (gL σ8 19 0)) <| hl (pC σ8 19 0 0 ((((((gC σ8 19 0 0)) &&& 262144)) ||| v12))) fun σ14 => hk (inb 1 (gL σ14 19 0)) <| some ((gC σ14 19 0 1), σ14)
set_option maxRecDepth 20000 in
set_option maxHeartbeats 4000000 in
theorem okX18_trap (l : Launch) (E : hc_E) (A : Nat → Prop) (d : Nat)  (hD : 2 ≤ d) {x1 : Int32} {x2 : Int32} {x3 : Int32} {x4 : Int32} {σ : hc_St} {r : (Int32 × hc_St)} (h : fm_X18_trap  x1 x2 x3 x4 σ = some r) (am : Nat → Nat → Nat) : hc_M l hc_V0 yX18_trap (ws_ yX18_trap cX18_trap 5 (some .int)) d E A [.ref (E.2.1 19), .int x1, .int x2, .int x3, .int x4] am [] σ (.inl (some (.int r.1))) r.2 := by
  have hd1 : 1 ≤ d := by omega
  refine hc_enter2 (own := RX18) [(0, .ref (E.2.1 19)), (1, .int x1), (2, .int x2), (3, .int x3), (4, .int x4)] pl_X18 rfl hc_V0_st hc_G0_nd rfl (Nat.le_of_ble_eq_true rfl) (fun X hC hem => ?_)
  unfold fm_X18_trap at h
  refine hr_aload_n hC dX18_trap_0 rfl ?_
  refine hr_iconst (v := 3) hC dX18_trap_1 rfl ?_
  refine hr_iload_n hC dX18_trap_2 rfl ?_
  obtain ⟨r1, e2, h⟩ := hx_bind h
  refine hs_callV0 hC 19 [_, _] _ dX18_trap_3 q2501 q2502 q2503 q332 q2504 np_X18 rfl OB_19 pd_X18_set (Nat.le_of_ble_eq_true rfl) hd1 (okX18_set l E A (d - 1)  (by omega)  e2 am) rfl ?_
  refine hr_aload_n hC dX18_trap_6 rfl ?_
  refine hr_gA hC F19_0 rfl dX18_trap_7 q888 ?_
  refine hr_iconst (v := 4) hC dX18_trap_10 rfl ?_
  refine hr_iload_n hC dX18_trap_11 rfl ?_
  obtain ⟨c5, h⟩ := hk_ok h
  obtain ⟨σ6, hσ6, h⟩ := hl_ok h
  refine hs_iast hC A19_0 c5 dX18_trap_12 ?_
  rw [← hσ6]
  refine hr_aload_n hC dX18_trap_13 rfl ?_
  refine hr_gA hC F19_0 rfl dX18_trap_14 q888 ?_
  refine hr_iconst (v := 5) hC dX18_trap_17 rfl ?_
  refine hr_iload_n hC dX18_trap_18 rfl ?_
  obtain ⟨c7, h⟩ := hk_ok h
  obtain ⟨σ8, hσ8, h⟩ := hl_ok h
  refine hs_iast hC A19_0 c7 dX18_trap_19 ?_
  rw [← hσ8]
  refine hr_aload_n hC dX18_trap_20 rfl ?_
  refine hr_gA hC F19_0 rfl dX18_trap_21 q888 ?_
  refine hr_iconst (v := 0) hC dX18_trap_24 rfl ?_
  refine hr_aload_n hC dX18_trap_25 rfl ?_
  refine hr_gA hC F19_0 rfl dX18_trap_26 q888 ?_
  refine hr_iconst (v := 0) hC dX18_trap_29 rfl ?_
  obtain ⟨c9, h⟩ := hk_ok h
  refine hs_iald hC A19_0 c9 dX18_trap_30 ?_
  refine hr_ldc hC dX18_trap_31 q2506 ?_
  refine hr_iand hC dX18_trap_33 ?_
  refine hr_iload hC dX18_trap_34 rfl ?_
  obtain ⟨v12, hv12, h⟩ := hl_ok h
  have J16 : ∀ w17 : Int32, (if x4 = 0 then 0 else 256) = w17 → hc_At hc_V0 E 5 X 46 [(0, .ref (E.2.1 19))] [.int w17, .int (((gC σ8 19 0 0)) &&& 262144), .int 0, .ref (am 19 0)] σ8 am [] := by
    intro w17 hw17
    obtain rfl := hv12.trans hw17
    refine hr_ior hC dX18_trap_46 ?_
    obtain ⟨c13, h⟩ := hk_ok h
    obtain ⟨σ14, hσ14, h⟩ := hl_ok h
    refine hs_iast hC A19_0 c13 dX18_trap_47 ?_
    rw [← hσ14]
    refine hr_aload_n hC dX18_trap_48 rfl ?_
    refine hr_gA hC F19_0 rfl dX18_trap_49 q888 ?_
    refine hr_iconst (v := 1) hC dX18_trap_52 rfl ?_
    obtain ⟨c15, h⟩ := hk_ok h
    refine hs_iald hC A19_0 c15 dX18_trap_53 ?_
    obtain rfl := Option.some.inj h
    exact hr_iret hC dX18_trap_54
  refine hr_if_ne (x := _) hC 43 dX18_trap_36 (by decide) (fun c18 => ?_) (fun c18 => ?_)
  · refine hr_sipush (v := 256) hC dX18_trap_43 rfl ?_
    exact hr_sub _ rfl (J16 _ (by first | (rw [if_neg c18]; done) | (simp only [if_neg c18]; done) | rfl))
  · refine hr_iconst (v := 0) hC dX18_trap_39 rfl ?_
    refine hr_goto hC 46 dX18_trap_40 (by decide) ?_
    exact hr_sub _ rfl (J16 _ (by first | (rw [if_pos c18]; done) | (simp only [if_pos c18]; done) | rfl))
/-- HomeCompiler$Hart.trap(II)I -/
def fm_X19_trap  (x1 : Int32) (x2 : Int32) (σ : hc_St) : Option (Int32 × hc_St) := Option.bind (fm_X18_trap ((gI σ 20 4)) x1 x2 ((gI σ 20 5)) σ) fun r1 => hl (pI r1.2 20 6 r1.1) fun σ5 => hl (pI σ5 20 5 1) fun σ6 => some (1, σ6)
set_option maxRecDepth 20000 in
set_option maxHeartbeats 4000000 in
theorem okX19_trap (l : Launch) (E : hc_E) (A : Nat → Prop) (d : Nat)  (hD : 3 ≤ d) {x1 : Int32} {x2 : Int32} {σ : hc_St} {r : (Int32 × hc_St)} (h : fm_X19_trap  x1 x2 σ = some r) (am : Nat → Nat → Nat) : hc_M l hc_V0 yX19_trap (ws_ yX19_trap cX19_trap 3 (some .int)) d E A [.ref (E.2.1 20), .int x1, .int x2] am [] σ (.inl (some (.int r.1))) r.2 := by
  have hd1 : 1 ≤ d := by omega
  refine hc_enter2 (own := RX19) [(0, .ref (E.2.1 20)), (1, .int x1), (2, .int x2)] pl_X19 rfl hc_V0_st hc_G0_nd rfl (Nat.le_of_ble_eq_true rfl) (fun X hC hem => ?_)
  unfold fm_X19_trap at h
  refine hr_aload_n hC dX19_trap_0 rfl ?_
  refine hr_aload_n hC dX19_trap_1 rfl ?_
  refine hr_gO 19 hC F20_1 rfl dX19_trap_2 q921 ?_
  refine hr_aload_n hC dX19_trap_5 rfl ?_
  refine hr_gI hC F20_4 dX19_trap_6 q927 ?_
  refine hr_iload_n hC dX19_trap_9 rfl ?_
  refine hr_iload_n hC dX19_trap_10 rfl ?_
  refine hr_aload_n hC dX19_trap_11 rfl ?_
  refine hr_gI hC F20_5 dX19_trap_12 q928 ?_
  obtain ⟨r1, e2, h⟩ := hx_bind h
  refine hs_callV0 hC 19 [_, _, _, _] _ dX19_trap_15 q2497 q2498 q2499 q332 q2500 np_X18 rfl OB_19 pd_X18_trap (Nat.le_of_ble_eq_true rfl) hd1 (okX18_trap l E A (d - 1)  (by omega)  e2 am) rfl ?_
  obtain ⟨σ5, hσ5, h⟩ := hl_ok h
  refine hr_pI hC F20_6 PX19_6 dX19_trap_18 q930 ?_
  rw [← hσ5]
  refine hr_aload_n hC dX19_trap_21 rfl ?_
  refine hr_iconst (v := 1) hC dX19_trap_22 rfl ?_
  obtain ⟨σ6, hσ6, h⟩ := hl_ok h
  refine hr_pI hC F20_5 PX19_5 dX19_trap_23 q928 ?_
  rw [← hσ6]
  refine hr_iconst (v := 1) hC dX19_trap_26 rfl ?_
  obtain rfl := Option.some.inj h
  exact hr_iret hC dX19_trap_27
/-- HomeCompiler$Controls.tables()I -/
def fm_X18_tables   (σ : hc_St) : Option Int32 := hk (inb 6 (gL σ 19 0)) <| some ((gC σ 19 0 6))
set_option maxRecDepth 20000 in
set_option maxHeartbeats 4000000 in
theorem okX18_tables (l : Launch) (E : hc_E) (A : Nat → Prop) (d : Nat)  (hD : 1 ≤ d)  {σ : hc_St} {r : Int32} (h : fm_X18_tables   σ = some r) (am : Nat → Nat → Nat) : hc_M l hc_V0 yX18_tables (ws_ yX18_tables cX18_tables 1 (some .int)) d E A [.ref (E.2.1 19)] am [] σ (.inl (some (.int r))) σ := by
  have hd1 : 1 ≤ d := by omega
  refine hc_enter2 (own := RX18) [(0, .ref (E.2.1 19))] pl_X18 rfl hc_V0_st hc_G0_nd rfl (Nat.le_of_ble_eq_true rfl) (fun X hC hem => ?_)
  unfold fm_X18_tables at h
  refine hr_aload_n hC dX18_tables_0 rfl ?_
  refine hr_gA hC F19_0 rfl dX18_tables_1 q888 ?_
  refine hr_bipush (v := 6) hC dX18_tables_4 rfl ?_
  obtain ⟨c1, h⟩ := hk_ok h
  refine hs_iald hC A19_0 c1 dX18_tables_6 ?_
  obtain rfl := Option.some.inj h
  exact hr_iret hC dX18_tables_7
/-- HomeCompiler$Controls.sum()Z -/
def fm_X18_sum   (σ : hc_St) : Option Int32 := hk (inb 0 (gL σ 19 0)) <| hl (α := Int32) ((if (((gC σ 19 0 0)) &&& 262144) = 0 then 0 else 1)) fun v4 => hk (hb01 v4) <| some v4
set_option maxRecDepth 20000 in
set_option maxHeartbeats 4000000 in
theorem okX18_sum (l : Launch) (E : hc_E) (A : Nat → Prop) (d : Nat)  (hD : 1 ≤ d)  {σ : hc_St} {r : Int32} (h : fm_X18_sum   σ = some r) (am : Nat → Nat → Nat) : hc_M l hc_V0 yX18_sum (ws_ yX18_sum cX18_sum 1 (some .boolean)) d E A [.ref (E.2.1 19)] am [] σ (.inl (some (.int r))) σ := by
  have hd1 : 1 ≤ d := by omega
  refine hc_enter2 (own := RX18) [(0, .ref (E.2.1 19))] pl_X18 rfl hc_V0_st hc_G0_nd rfl (Nat.le_of_ble_eq_true rfl) (fun X hC hem => ?_)
  unfold fm_X18_sum at h
  refine hr_aload_n hC dX18_sum_0 rfl ?_
  refine hr_gA hC F19_0 rfl dX18_sum_1 q888 ?_
  refine hr_iconst (v := 0) hC dX18_sum_4 rfl ?_
  obtain ⟨c1, h⟩ := hk_ok h
  refine hs_iald hC A19_0 c1 dX18_sum_5 ?_
  refine hr_ldc hC dX18_sum_6 q2506 ?_
  refine hr_iand hC dX18_sum_8 ?_
  obtain ⟨v4, hv4, h⟩ := hl_ok h
  have J6 : ∀ w7 : Int32, (if (((gC σ 19 0 0)) &&& 262144) = 0 then 0 else 1) = w7 → hc_At hc_V0 E 1 X 17 [] [.int w7] σ am [] := by
    intro w7 hw7
    obtain rfl := hv4.trans hw7
    obtain ⟨c5, h⟩ := hk_ok h
    obtain rfl := Option.some.inj h
    exact hr_zret hC (hb01_n c5) dX18_sum_17
  refine hr_if_eq (x := _) hC 16 dX18_sum_9 (by decide) (fun c8 => ?_) (fun c8 => ?_)
  · refine hr_iconst (v := 0) hC dX18_sum_16 rfl ?_
    exact hr_sub _ rfl (J6 _ (by first | (rw [if_pos c8]; done) | (simp only [if_pos c8]; done) | rfl))
  · refine hr_iconst (v := 1) hC dX18_sum_12 rfl ?_
    refine hr_goto hC 17 dX18_sum_13 (by decide) ?_
    exact hr_sub _ rfl (J6 _ (by first | (rw [if_neg c8]; done) | (simp only [if_neg c8]; done) | rfl))
/-- HomeCompiler$Ram.has(I)Z -/
def fm_X17_has  (x1 : Int32) (σ : hc_St) : Option Int32 := hl (α := Int32) ((if (jush x1 ((gI σ 18 0))) = 0 then 1 else 0)) fun v3 => hk (hb01 v3) <| some v3
set_option maxRecDepth 20000 in
set_option maxHeartbeats 4000000 in
theorem okX17_has (l : Launch) (E : hc_E) (A : Nat → Prop) (d : Nat)  (hD : 1 ≤ d) {x1 : Int32} {σ : hc_St} {r : Int32} (h : fm_X17_has  x1 σ = some r) (am : Nat → Nat → Nat) : hc_M l hc_V0 yX17_has (ws_ yX17_has cX17_has 2 (some .boolean)) d E A [.ref (E.2.1 18), .int x1] am [] σ (.inl (some (.int r))) σ := by
  have hd1 : 1 ≤ d := by omega
  refine hc_enter2 (own := RX17) [(0, .ref (E.2.1 18)), (1, .int x1)] pl_X17 rfl hc_V0_st hc_G0_nd rfl (Nat.le_of_ble_eq_true rfl) (fun X hC hem => ?_)
  unfold fm_X17_has at h
  refine hr_iload_n hC dX17_has_0 rfl ?_
  refine hr_aload_n hC dX17_has_1 rfl ?_
  refine hr_gI hC F18_0 dX17_has_2 q865 ?_
  refine hr_iushr hC dX17_has_5 ?_
  obtain ⟨v3, hv3, h⟩ := hl_ok h
  have J5 : ∀ w6 : Int32, (if (jush x1 ((gI σ 18 0))) = 0 then 1 else 0) = w6 → hc_At hc_V0 E 2 X 14 [] [.int w6] σ am [] := by
    intro w6 hw6
    obtain rfl := hv3.trans hw6
    obtain ⟨c4, h⟩ := hk_ok h
    obtain rfl := Option.some.inj h
    exact hr_zret hC (hb01_n c4) dX17_has_14
  refine hr_if_ne (x := _) hC 13 dX17_has_6 (by decide) (fun c7 => ?_) (fun c7 => ?_)
  · refine hr_iconst (v := 0) hC dX17_has_13 rfl ?_
    exact hr_sub _ rfl (J5 _ (by first | (rw [if_neg c7]; done) | (simp only [if_neg c7]; done) | rfl))
  · refine hr_iconst (v := 1) hC dX17_has_9 rfl ?_
    refine hr_goto hC 14 dX17_has_10 (by decide) ?_
    exact hr_sub _ rfl (J5 _ (by first | (rw [if_pos c7]; done) | (simp only [if_pos c7]; done) | rfl))
/-- HomeCompiler$Walker.access(I)I -/
def fm_X20_access  (x0 : Int32) (σ : hc_St) : Option Int32 := hl (α := Int32) ((if x0 = 0 then (-2) else (if x0 = 1 then (-6) else (-8)))) fun v3 => some v3
set_option maxRecDepth 20000 in
set_option maxHeartbeats 4000000 in
theorem okX20_access (l : Launch) (E : hc_E) (A : Nat → Prop) (d : Nat)  (hD : 1 ≤ d) {x0 : Int32} {σ : hc_St} {r : Int32} (h : fm_X20_access  x0 σ = some r) (am : Nat → Nat → Nat) : hc_M l hc_V0 yX20_access (ws_ yX20_access cX20_access 1 (some .int)) d E A [.int x0] am [] σ (.inl (some (.int r))) σ := by
  have hd1 : 1 ≤ d := by omega
  refine hc_enter2 (own := RX20) [(0, .int x0)] pl_X20 rfl hc_V0_st hc_G0_nd rfl (Nat.le_of_ble_eq_true rfl) (fun X hC hem => ?_)
  unfold fm_X20_access at h
  refine hr_iload_n hC dX20_access_0 rfl ?_
  obtain ⟨v3, hv3, h⟩ := hl_ok h
  have J4 : ∀ w5 : Int32, (if x0 = 0 then (-2) else (if x0 = 1 then (-6) else (-8))) = w5 → hc_At hc_V0 E 1 X 21 [] [.int w5] σ am [] := by
    intro w5 hw5
    obtain rfl := hv3.trans hw5
    obtain rfl := Option.some.inj h
    exact hr_iret hC dX20_access_21
  refine hr_if_ne (x := _) hC 9 dX20_access_1 (by decide) (fun c6 => ?_) (fun c6 => ?_)
  · refine hr_iload_n hC dX20_access_9 rfl ?_
    refine hr_iconst (v := 1) hC dX20_access_10 rfl ?_
    refine hr_icmp_ne (x := _) hC 19 dX20_access_11 (by decide) (fun c7 => ?_) (fun c7 => ?_)
    · refine hr_bipush (v := (-8)) hC dX20_access_19 rfl ?_
      exact hr_sub _ rfl (J4 _ (by first | (rw [if_neg c6, if_neg c7]; done) | (simp only [if_neg c6, if_neg c7]; done) | rfl))
    · refine hr_bipush (v := (-6)) hC dX20_access_14 rfl ?_
      refine hr_goto hC 21 dX20_access_16 (by decide) ?_
      exact hr_sub _ rfl (J4 _ (by first | (rw [if_neg c6, if_pos c7]; done) | (simp only [if_neg c6, if_pos c7]; done) | rfl))
  · refine hr_bipush (v := (-2)) hC dX20_access_4 rfl ?_
    refine hr_goto hC 21 dX20_access_6 (by decide) ?_
    exact hr_sub _ rfl (J4 _ (by first | (rw [if_pos c6]; done) | (simp only [if_pos c6]; done) | rfl))
/-- HomeCompiler$Ram.changes()I -/
def fm_X17_changes   (σ : hc_St) : Option Int32 := some ((gI σ 18 4))
set_option maxRecDepth 20000 in
set_option maxHeartbeats 4000000 in
theorem okX17_changes (l : Launch) (E : hc_E) (A : Nat → Prop) (d : Nat)  (hD : 1 ≤ d)  {σ : hc_St} {r : Int32} (h : fm_X17_changes   σ = some r) (am : Nat → Nat → Nat) : hc_M l hc_V0 yX17_changes (ws_ yX17_changes cX17_changes 1 (some .int)) d E A [.ref (E.2.1 18)] am [] σ (.inl (some (.int r))) σ := by
  have hd1 : 1 ≤ d := by omega
  refine hc_enter2 (own := RX17) [(0, .ref (E.2.1 18))] pl_X17 rfl hc_V0_st hc_G0_nd rfl (Nat.le_of_ble_eq_true rfl) (fun X hC hem => ?_)
  unfold fm_X17_changes at h
  refine hr_aload_n hC dX17_changes_0 rfl ?_
  refine hr_gI hC F18_4 dX17_changes_1 q869 ?_
  obtain rfl := Option.some.inj h
  exact hr_iret hC dX17_changes_4
def lp_X17_forget_2 (n : Nat) : Nat → Int32 → hc_St → Option (hc_St)
  | 0, _, _ => none
  | m + 1, y1, σ => if (nI (gL σ 18 3)) ≤ y1 then (some (σ)) else (hk (inb y1 (gL σ 18 3)) <| hl (pC σ 18 3 y1 0) fun σ4 => lp_X17_forget_2 n m ((y1 + 1)) σ4)
/-- HomeCompiler$Ram.forget()V -/
def fm_X17_forget (n : Nat)  (σ : hc_St) : Option hc_St := Option.bind (lp_X17_forget_2 n n 0 σ) fun r5 => some r5
set_option maxRecDepth 20000 in
set_option maxHeartbeats 4000000 in
theorem ll_X17_forget_2 {l : Launch} {E : hc_E} {A : Nat → Prop} {am : Nat → Nat → Nat} {d : Nat} {X : hc_X} (n : Nat) (hD : 1 ≤ d) (hem : X.2.2.2.2.2.2.2.2.2.1.exceptionTable.isEmpty = true) {oc : hc_Oc} {σe : hc_St} (hC : hc_C hc_V0 E cX17_forget 2 RX17 none d oc σe (l, A, am, []) X) : ∀ (m : Nat) (σ : hc_St) (y1 : Int32) (rl : hc_St) (am1 : Nat → Nat → Nat), lp_X17_forget_2 n m y1 σ = some rl → (hc_At hc_V0 E 2 X 24 [] [] rl am1 []) → hc_At hc_V0 E 2 X 2 [(0, .ref (E.2.1 18)), (1, .int y1)] [] σ am1 [] := by
  have hd1 : 1 ≤ d := by omega
  intro m
  induction m with
  | zero =>
    intro σ y1 rl am1 h
    cases h
  | succ m ih =>
    intro σ y1 rl am1 h JX
    rw [lp_X17_forget_2] at h
    refine hr_iload_n hC dX17_forget_2 rfl ?_
    refine hr_aload_n hC dX17_forget_3 rfl ?_
    refine hr_gA hC F18_3 rfl dX17_forget_4 q868 ?_
    refine hs_alen3 hC A18_3 dX17_forget_7 ?_
    refine hr_icmp_ge (x := _) hC 24 dX17_forget_8 (by decide) (fun c2 => ?_) (fun c2 => ?_)
    · rw [if_pos c2] at h
      obtain rfl := Option.some.inj h
      exact hr_sub _ rfl (JX)
    · rw [if_neg c2] at h
      refine hr_aload_n hC dX17_forget_11 rfl ?_
      refine hr_gA hC F18_3 rfl dX17_forget_12 q868 ?_
      refine hr_iload_n hC dX17_forget_15 rfl ?_
      refine hr_iconst (v := 0) hC dX17_forget_16 rfl ?_
      obtain ⟨c3, h⟩ := hk_ok h
      obtain ⟨σ4, hσ4, h⟩ := hl_ok h
      refine hs_zast hC A18_3 c3 dX17_forget_17 ?_
      rw [← hσ4]
      refine hr_iinc (v := y1 + 1) hC dX17_forget_18 rfl rfl (by decide) ?_
      refine hr_goto hC 2 dX17_forget_21 (by decide) ?_
      exact hr_sub _ rfl (ih _ _ _ am1 h JX)
set_option maxRecDepth 20000 in
set_option maxHeartbeats 4000000 in
theorem okX17_forget (l : Launch) (E : hc_E) (A : Nat → Prop) (d : Nat) (n : Nat) (hD : 1 ≤ d)  {σ : hc_St} {r : hc_St} (h : fm_X17_forget n  σ = some r) (am : Nat → Nat → Nat) : hc_M l hc_V0 yX17_forget (ws_ yX17_forget cX17_forget 2 none) d E A [.ref (E.2.1 18)] am [] σ (.inl none) r := by
  have hd1 : 1 ≤ d := by omega
  refine hc_enter2 (own := RX17) [(0, .ref (E.2.1 18))] pl_X17 rfl hc_V0_st hc_G0_nd rfl (Nat.le_of_ble_eq_true rfl) (fun X hC hem => ?_)
  unfold fm_X17_forget at h
  refine hr_iconst (v := 0) hC dX17_forget_0 rfl ?_
  refine hr_istore_n hC dX17_forget_1 (by decide) ?_
  obtain ⟨r5, e6, h⟩ := hx_bind h
  refine hr_sub _ rfl (ll_X17_forget_2 n hD hem hC n _ _ _ am e6 ?_)
  obtain rfl := Option.some.inj h
  exact hr_vret hC dX17_forget_24
def lp_X20_forget_2 (n : Nat) : Nat → Int32 → hc_St → Option (hc_St)
  | 0, _, _ => none
  | m + 1, y1, σ => if 192 ≤ y1 then (some (σ)) else (hk (inb y1 (gL σ 21 1)) <| hl (pC σ 21 1 y1 0) fun σ4 => lp_X20_forget_2 n m ((y1 + 1)) σ4)
/-- HomeCompiler$Walker.forget()V -/
def fm_X20_forget (n : Nat)  (σ : hc_St) : Option hc_St := Option.bind (lp_X20_forget_2 n n 0 σ) fun r5 => Option.bind (fm_X17_forget n r5) fun r10 => some r10
set_option maxRecDepth 20000 in
set_option maxHeartbeats 4000000 in
theorem ll_X20_forget_2 {l : Launch} {E : hc_E} {A : Nat → Prop} {am : Nat → Nat → Nat} {d : Nat} {X : hc_X} (n : Nat) (hD : 2 ≤ d) (hem : X.2.2.2.2.2.2.2.2.2.1.exceptionTable.isEmpty = true) {oc : hc_Oc} {σe : hc_St} (hC : hc_C hc_V0 E cX20_forget 2 RX20 none d oc σe (l, A, am, []) X) : ∀ (m : Nat) (σ : hc_St) (y1 : Int32) (rl : hc_St) (am1 : Nat → Nat → Nat), lp_X20_forget_2 n m y1 σ = some rl → (hc_At hc_V0 E 2 X 22 [(0, .ref (E.2.1 21))] [] rl am1 []) → hc_At hc_V0 E 2 X 2 [(0, .ref (E.2.1 21)), (1, .int y1)] [] σ am1 [] := by
  have hd1 : 1 ≤ d := by omega
  intro m
  induction m with
  | zero =>
    intro σ y1 rl am1 h
    cases h
  | succ m ih =>
    intro σ y1 rl am1 h JX
    rw [lp_X20_forget_2] at h
    refine hr_iload_n hC dX20_forget_2 rfl ?_
    refine hr_sipush (v := 192) hC dX20_forget_3 rfl ?_
    refine hr_icmp_ge (x := _) hC 22 dX20_forget_6 (by decide) (fun c2 => ?_) (fun c2 => ?_)
    · rw [if_pos c2] at h
      obtain rfl := Option.some.inj h
      exact hr_sub _ rfl (JX)
    · rw [if_neg c2] at h
      refine hr_aload_n hC dX20_forget_9 rfl ?_
      refine hr_gA hC F21_1 rfl dX20_forget_10 q905 ?_
      refine hr_iload_n hC dX20_forget_13 rfl ?_
      refine hr_iconst (v := 0) hC dX20_forget_14 rfl ?_
      obtain ⟨c3, h⟩ := hk_ok h
      obtain ⟨σ4, hσ4, h⟩ := hl_ok h
      refine hs_iast hC A21_1 c3 dX20_forget_15 ?_
      rw [← hσ4]
      refine hr_iinc (v := y1 + 1) hC dX20_forget_16 rfl rfl (by decide) ?_
      refine hr_goto hC 2 dX20_forget_19 (by decide) ?_
      exact hr_sub _ rfl (ih _ _ _ am1 h JX)
set_option maxRecDepth 20000 in
set_option maxHeartbeats 4000000 in
theorem okX20_forget (l : Launch) (E : hc_E) (A : Nat → Prop) (d : Nat) (n : Nat) (hD : 2 ≤ d)  {σ : hc_St} {r : hc_St} (h : fm_X20_forget n  σ = some r) (am : Nat → Nat → Nat) : hc_M l hc_V0 yX20_forget (ws_ yX20_forget cX20_forget 2 none) d E A [.ref (E.2.1 21)] am [] σ (.inl none) r := by
  have hd1 : 1 ≤ d := by omega
  refine hc_enter2 (own := RX20) [(0, .ref (E.2.1 21))] pl_X20 rfl hc_V0_st hc_G0_nd rfl (Nat.le_of_ble_eq_true rfl) (fun X hC hem => ?_)
  unfold fm_X20_forget at h
  refine hr_iconst (v := 0) hC dX20_forget_0 rfl ?_
  refine hr_istore_n hC dX20_forget_1 (by decide) ?_
  obtain ⟨r5, e6, h⟩ := hx_bind h
  refine hr_sub _ rfl (ll_X20_forget_2 n hD hem hC n _ _ _ am e6 ?_)
  refine hr_aload_n hC dX20_forget_22 rfl ?_
  refine hr_gO 18 hC F21_0 rfl dX20_forget_23 q904 ?_
  obtain ⟨r10, e11, h⟩ := hx_bind h
  refine hs_callV0 hC 18 [] _ dX20_forget_26 q2543 q2544 q2545 q331 q2546 np_X17 rfl OB_18 pd_X17_forget (Nat.le_of_ble_eq_true rfl) hd1 (okX17_forget l E A (d - 1) n (by omega)  e11 am) rfl ?_
  obtain rfl := Option.some.inj h
  exact hr_vret hC dX20_forget_29
/-- HomeCompiler$Ram.watch(I)V -/
def fm_X17_watch  (x1 : Int32) (σ : hc_St) : Option hc_St := hk (inb ((jshr x1 12)) (gL σ 18 3)) <| hl (pC σ 18 3 ((jshr x1 12)) 1) fun σ2 => some σ2
set_option maxRecDepth 20000 in
set_option maxHeartbeats 4000000 in
theorem okX17_watch (l : Launch) (E : hc_E) (A : Nat → Prop) (d : Nat)  (hD : 1 ≤ d) {x1 : Int32} {σ : hc_St} {r : hc_St} (h : fm_X17_watch  x1 σ = some r) (am : Nat → Nat → Nat) : hc_M l hc_V0 yX17_watch (ws_ yX17_watch cX17_watch 2 none) d E A [.ref (E.2.1 18), .int x1] am [] σ (.inl none) r := by
  have hd1 : 1 ≤ d := by omega
  refine hc_enter2 (own := RX17) [(0, .ref (E.2.1 18)), (1, .int x1)] pl_X17 rfl hc_V0_st hc_G0_nd rfl (Nat.le_of_ble_eq_true rfl) (fun X hC hem => ?_)
  unfold fm_X17_watch at h
  refine hr_aload_n hC dX17_watch_0 rfl ?_
  refine hr_gA hC F18_3 rfl dX17_watch_1 q868 ?_
  refine hr_iload_n hC dX17_watch_4 rfl ?_
  refine hr_bipush (v := 12) hC dX17_watch_5 rfl ?_
  refine hr_ishr hC dX17_watch_7 ?_
  refine hr_iconst (v := 1) hC dX17_watch_8 rfl ?_
  obtain ⟨c1, h⟩ := hk_ok h
  obtain ⟨σ2, hσ2, h⟩ := hl_ok h
  refine hs_zast hC A18_3 c1 dX17_watch_9 ?_
  rw [← hσ2]
  obtain rfl := Option.some.inj h
  exact hr_vret hC dX17_watch_10
/-- HomeCompiler$Ram.word(I)I -/
def fm_X17_word  (x1 : Int32) (σ : hc_St) : Option Int32 := hk (inb ((jshr x1 2)) (gL σ 18 1)) <| some ((gC σ 18 1 ((jshr x1 2))))
set_option maxRecDepth 20000 in
set_option maxHeartbeats 4000000 in
theorem okX17_word (l : Launch) (E : hc_E) (A : Nat → Prop) (d : Nat)  (hD : 1 ≤ d) {x1 : Int32} {σ : hc_St} {r : Int32} (h : fm_X17_word  x1 σ = some r) (am : Nat → Nat → Nat) : hc_M l hc_V0 yX17_word (ws_ yX17_word cX17_word 2 (some .int)) d E A [.ref (E.2.1 18), .int x1] am [] σ (.inl (some (.int r))) σ := by
  have hd1 : 1 ≤ d := by omega
  refine hc_enter2 (own := RX17) [(0, .ref (E.2.1 18)), (1, .int x1)] pl_X17 rfl hc_V0_st hc_G0_nd rfl (Nat.le_of_ble_eq_true rfl) (fun X hC hem => ?_)
  unfold fm_X17_word at h
  refine hr_aload_n hC dX17_word_0 rfl ?_
  refine hr_gA hC F18_1 rfl dX17_word_1 q866 ?_
  refine hr_iload_n hC dX17_word_4 rfl ?_
  refine hr_iconst (v := 2) hC dX17_word_5 rfl ?_
  refine hr_ishr hC dX17_word_6 ?_
  obtain ⟨c1, h⟩ := hk_ok h
  refine hs_iald hC A18_1 c1 dX17_word_7 ?_
  obtain rfl := Option.some.inj h
  exact hr_iret hC dX17_word_8
/-- HomeCompiler$Walker.isGood(IIIZ)Z -/
def fm_X20_isGood  (x0 : Int32) (x1 : Int32) (x2 : Int32) (x3 : Int32) (σ : hc_St) : Option Int32 := hl (α := Int32) ((if (x0 &&& 1) = 0 then 0 else (if (x0 &&& 6) = 4 then 0 else (if (x0 &&& 10) = 0 then 0 else (if (x0 &&& 64) = 0 then 0 else 1))))) fun v3 => hl (α := Int32) ((if x1 = 0 then 8 else (if x1 = 1 then 2 else 132))) fun v6 => hl (α := Int32) ((if (x0 &&& 16) = 0 then 0 else 1)) fun v9 => hl (α := Int32) ((if x2 = 0 then v9 else (if v9 = 0 then 1 else (if x1 = 0 then 0 else (if x3 = 0 then 0 else 1))))) fun v12 => hl (α := Int32) ((if v3 = 0 then 0 else (if v12 = 0 then 0 else (if (x0 &&& v6) = v6 then 1 else 0)))) fun v15 => hk (hb01 v15) <| some v15
set_option maxRecDepth 20000 in
set_option maxHeartbeats 4000000 in
theorem okX20_isGood (l : Launch) (E : hc_E) (A : Nat → Prop) (d : Nat)  (hD : 1 ≤ d) {x0 : Int32} {x1 : Int32} {x2 : Int32} {x3 : Int32} {σ : hc_St} {r : Int32} (h : fm_X20_isGood  x0 x1 x2 x3 σ = some r) (am : Nat → Nat → Nat) : hc_M l hc_V0 yX20_isGood (ws_ yX20_isGood cX20_isGood 8 (some .boolean)) d E A [.int x0, .int x1, .int x2, .int x3] am [] σ (.inl (some (.int r))) σ := by
  have hd1 : 1 ≤ d := by omega
  refine hc_enter2 (own := RX20) [(0, .int x0), (1, .int x1), (2, .int x2), (3, .int x3)] pl_X20 rfl hc_V0_st hc_G0_nd rfl (Nat.le_of_ble_eq_true rfl) (fun X hC hem => ?_)
  unfold fm_X20_isGood at h
  refine hr_iload_n hC dX20_isGood_0 rfl ?_
  refine hr_iconst (v := 1) hC dX20_isGood_1 rfl ?_
  refine hr_iand hC dX20_isGood_2 ?_
  obtain ⟨v3, hv3, h⟩ := hl_ok h
  have J35 : ∀ w36 : Int32, (if (x0 &&& 1) = 0 then 0 else (if (x0 &&& 6) = 4 then 0 else (if (x0 &&& 10) = 0 then 0 else (if (x0 &&& 64) = 0 then 0 else 1)))) = w36 → hc_At hc_V0 E 8 X 33 [(0, .int x0), (1, .int x1), (2, .int x2), (3, .int x3)] [.int w36] σ am [] := by
    intro w36 hw36
    obtain rfl := hv3.trans hw36
    refine hr_istore hC dX20_isGood_33 (by decide) ?_
    refine hr_iload_n hC dX20_isGood_35 rfl ?_
    obtain ⟨v6, hv6, h⟩ := hl_ok h
    have J31 : ∀ w32 : Int32, (if x1 = 0 then 8 else (if x1 = 1 then 2 else 132)) = w32 → hc_At hc_V0 E 8 X 56 [(0, .int x0), (1, .int x1), (2, .int x2), (3, .int x3), (4, .int v3)] [.int w32] σ am [] := by
      intro w32 hw32
      obtain rfl := hv6.trans hw32
      refine hr_istore hC dX20_isGood_56 (by decide) ?_
      refine hr_iload_n hC dX20_isGood_58 rfl ?_
      refine hr_bipush (v := 16) hC dX20_isGood_59 rfl ?_
      refine hr_iand hC dX20_isGood_61 ?_
      obtain ⟨v9, hv9, h⟩ := hl_ok h
      have J28 : ∀ w29 : Int32, (if (x0 &&& 16) = 0 then 0 else 1) = w29 → hc_At hc_V0 E 8 X 70 [(0, .int x0), (1, .int x1), (2, .int x2), (3, .int x3), (4, .int v3), (5, .int v6)] [.int w29] σ am [] := by
        intro w29 hw29
        obtain rfl := hv9.trans hw29
        refine hr_istore hC dX20_isGood_70 (by decide) ?_
        refine hr_iload_n hC dX20_isGood_72 rfl ?_
        obtain ⟨v12, hv12, h⟩ := hl_ok h
        have J22 : ∀ w23 : Int32, (if x2 = 0 then v9 else (if v9 = 0 then 1 else (if x1 = 0 then 0 else (if x3 = 0 then 0 else 1)))) = w23 → hc_At hc_V0 E 8 X 99 [(0, .int x0), (4, .int v3), (5, .int v6)] [.int w23] σ am [] := by
          intro w23 hw23
          obtain rfl := hv12.trans hw23
          refine hr_istore hC dX20_isGood_99 (by decide) ?_
          refine hr_iload hC dX20_isGood_101 rfl ?_
          obtain ⟨v15, hv15, h⟩ := hl_ok h
          have J17 : ∀ w18 : Int32, (if v3 = 0 then 0 else (if v12 = 0 then 0 else (if (x0 &&& v6) = v6 then 1 else 0))) = w18 → hc_At hc_V0 E 8 X 125 [] [.int w18] σ am [] := by
            intro w18 hw18
            obtain rfl := hv15.trans hw18
            obtain ⟨c16, h⟩ := hk_ok h
            obtain rfl := Option.some.inj h
            exact hr_zret hC (hb01_n c16) dX20_isGood_125
          refine hr_if_eq (x := _) hC 124 dX20_isGood_103 (by decide) (fun c19 => ?_) (fun c19 => ?_)
          · refine hr_iconst (v := 0) hC dX20_isGood_124 rfl ?_
            exact hr_sub _ rfl (J17 _ (by first | (rw [if_pos c19]; done) | (simp only [if_pos c19]; done) | rfl))
          · refine hr_iload hC dX20_isGood_106 rfl ?_
            refine hr_if_eq (x := _) hC 124 dX20_isGood_108 (by decide) (fun c20 => ?_) (fun c20 => ?_)
            · refine hr_iconst (v := 0) hC dX20_isGood_124 rfl ?_
              exact hr_sub _ rfl (J17 _ (by first | (rw [if_neg c19, if_pos c20]; done) | (simp only [if_neg c19, if_pos c20]; done) | rfl))
            · refine hr_iload_n hC dX20_isGood_111 rfl ?_
              refine hr_iload hC dX20_isGood_112 rfl ?_
              refine hr_iand hC dX20_isGood_114 ?_
              refine hr_iload hC dX20_isGood_115 rfl ?_
              refine hr_icmp_ne (x := _) hC 124 dX20_isGood_117 (by decide) (fun c21 => ?_) (fun c21 => ?_)
              · refine hr_iconst (v := 0) hC dX20_isGood_124 rfl ?_
                exact hr_sub _ rfl (J17 _ (by first | (rw [if_neg c19, if_neg c20, if_neg c21]; done) | (simp only [if_neg c19, if_neg c20, if_neg c21]; done) | rfl))
              · refine hr_iconst (v := 1) hC dX20_isGood_120 rfl ?_
                refine hr_goto hC 125 dX20_isGood_121 (by decide) ?_
                exact hr_sub _ rfl (J17 _ (by first | (rw [if_neg c19, if_neg c20, if_pos c21]; done) | (simp only [if_neg c19, if_neg c20, if_pos c21]; done) | rfl))
        refine hr_if_ne (x := _) hC 81 dX20_isGood_73 (by decide) (fun c24 => ?_) (fun c24 => ?_)
        · refine hr_iload hC dX20_isGood_81 rfl ?_
          refine hr_if_eq (x := _) hC 94 dX20_isGood_83 (by decide) (fun c25 => ?_) (fun c25 => ?_)
          · refine hr_iconst (v := 1) hC dX20_isGood_94 rfl ?_
            refine hr_goto hC 99 dX20_isGood_95 (by decide) ?_
            exact hr_sub _ rfl (J22 _ (by first | (rw [if_neg c24, if_pos c25]; done) | (simp only [if_neg c24, if_pos c25]; done) | rfl))
          · refine hr_iload_n hC dX20_isGood_86 rfl ?_
            refine hr_if_eq (x := _) hC 98 dX20_isGood_87 (by decide) (fun c26 => ?_) (fun c26 => ?_)
            · refine hr_iconst (v := 0) hC dX20_isGood_98 rfl ?_
              exact hr_sub _ rfl (J22 _ (by first | (rw [if_neg c24, if_neg c25, if_pos c26]; done) | (simp only [if_neg c24, if_neg c25, if_pos c26]; done) | rfl))
            · refine hr_iload_n hC dX20_isGood_90 rfl ?_
              refine hr_if_eq (x := _) hC 98 dX20_isGood_91 (by decide) (fun c27 => ?_) (fun c27 => ?_)
              · refine hr_iconst (v := 0) hC dX20_isGood_98 rfl ?_
                exact hr_sub _ rfl (J22 _ (by first | (rw [if_neg c24, if_neg c25, if_neg c26, if_pos c27]; done) | (simp only [if_neg c24, if_neg c25, if_neg c26, if_pos c27]; done) | rfl))
              · refine hr_iconst (v := 1) hC dX20_isGood_94 rfl ?_
                refine hr_goto hC 99 dX20_isGood_95 (by decide) ?_
                exact hr_sub _ rfl (J22 _ (by first | (rw [if_neg c24, if_neg c25, if_neg c26, if_neg c27]; done) | (simp only [if_neg c24, if_neg c25, if_neg c26, if_neg c27]; done) | rfl))
        · refine hr_iload hC dX20_isGood_76 rfl ?_
          refine hr_goto hC 99 dX20_isGood_78 (by decide) ?_
          exact hr_sub _ rfl (J22 _ (by first | (rw [if_pos c24]; done) | (simp only [if_pos c24]; done) | rfl))
      refine hr_if_eq (x := _) hC 69 dX20_isGood_62 (by decide) (fun c30 => ?_) (fun c30 => ?_)
      · refine hr_iconst (v := 0) hC dX20_isGood_69 rfl ?_
        exact hr_sub _ rfl (J28 _ (by first | (rw [if_pos c30]; done) | (simp only [if_pos c30]; done) | rfl))
      · refine hr_iconst (v := 1) hC dX20_isGood_65 rfl ?_
        refine hr_goto hC 70 dX20_isGood_66 (by decide) ?_
        exact hr_sub _ rfl (J28 _ (by first | (rw [if_neg c30]; done) | (simp only [if_neg c30]; done) | rfl))
    refine hr_if_ne (x := _) hC 44 dX20_isGood_36 (by decide) (fun c33 => ?_) (fun c33 => ?_)
    · refine hr_iload_n hC dX20_isGood_44 rfl ?_
      refine hr_iconst (v := 1) hC dX20_isGood_45 rfl ?_
      refine hr_icmp_ne (x := _) hC 53 dX20_isGood_46 (by decide) (fun c34 => ?_) (fun c34 => ?_)
      · refine hr_sipush (v := 132) hC dX20_isGood_53 rfl ?_
        exact hr_sub _ rfl (J31 _ (by first | (rw [if_neg c33, if_neg c34]; done) | (simp only [if_neg c33, if_neg c34]; done) | rfl))
      · refine hr_iconst (v := 2) hC dX20_isGood_49 rfl ?_
        refine hr_goto hC 56 dX20_isGood_50 (by decide) ?_
        exact hr_sub _ rfl (J31 _ (by first | (rw [if_neg c33, if_pos c34]; done) | (simp only [if_neg c33, if_pos c34]; done) | rfl))
    · refine hr_bipush (v := 8) hC dX20_isGood_39 rfl ?_
      refine hr_goto hC 56 dX20_isGood_41 (by decide) ?_
      exact hr_sub _ rfl (J31 _ (by first | (rw [if_pos c33]; done) | (simp only [if_pos c33]; done) | rfl))
  refine hr_if_eq (x := _) hC 32 dX20_isGood_3 (by decide) (fun c37 => ?_) (fun c37 => ?_)
  · refine hr_iconst (v := 0) hC dX20_isGood_32 rfl ?_
    exact hr_sub _ rfl (J35 _ (by first | (rw [if_pos c37]; done) | (simp only [if_pos c37]; done) | rfl))
  · refine hr_iload_n hC dX20_isGood_6 rfl ?_
    refine hr_bipush (v := 6) hC dX20_isGood_7 rfl ?_
    refine hr_iand hC dX20_isGood_9 ?_
    refine hr_iconst (v := 4) hC dX20_isGood_10 rfl ?_
    refine hr_icmp_eq (x := _) hC 32 dX20_isGood_11 (by decide) (fun c38 => ?_) (fun c38 => ?_)
    · refine hr_iconst (v := 0) hC dX20_isGood_32 rfl ?_
      exact hr_sub _ rfl (J35 _ (by first | (rw [if_neg c37, if_pos c38]; done) | (simp only [if_neg c37, if_pos c38]; done) | rfl))
    · refine hr_iload_n hC dX20_isGood_14 rfl ?_
      refine hr_bipush (v := 10) hC dX20_isGood_15 rfl ?_
      refine hr_iand hC dX20_isGood_17 ?_
      refine hr_if_eq (x := _) hC 32 dX20_isGood_18 (by decide) (fun c39 => ?_) (fun c39 => ?_)
      · refine hr_iconst (v := 0) hC dX20_isGood_32 rfl ?_
        exact hr_sub _ rfl (J35 _ (by first | (rw [if_neg c37, if_neg c38, if_pos c39]; done) | (simp only [if_neg c37, if_neg c38, if_pos c39]; done) | rfl))
      · refine hr_iload_n hC dX20_isGood_21 rfl ?_
        refine hr_bipush (v := 64) hC dX20_isGood_22 rfl ?_
        refine hr_iand hC dX20_isGood_24 ?_
        refine hr_if_eq (x := _) hC 32 dX20_isGood_25 (by decide) (fun c40 => ?_) (fun c40 => ?_)
        · refine hr_iconst (v := 0) hC dX20_isGood_32 rfl ?_
          exact hr_sub _ rfl (J35 _ (by first | (rw [if_neg c37, if_neg c38, if_neg c39, if_pos c40]; done) | (simp only [if_neg c37, if_neg c38, if_neg c39, if_pos c40]; done) | rfl))
        · refine hr_iconst (v := 1) hC dX20_isGood_28 rfl ?_
          refine hr_goto hC 33 dX20_isGood_29 (by decide) ?_
          exact hr_sub _ rfl (J35 _ (by first | (rw [if_neg c37, if_neg c38, if_neg c39, if_neg c40]; done) | (simp only [if_neg c37, if_neg c38, if_neg c39, if_neg c40]; done) | rfl))
/-- HomeCompiler$Walker.page(I)I -/
def fm_X20_page  (x0 : Int32) (σ : hc_St) : Option Int32 := hl (α := Int32) ((if x0 = 0 then (-13) else (if x0 = 1 then (-14) else (-16)))) fun v3 => some v3
set_option maxRecDepth 20000 in
set_option maxHeartbeats 4000000 in
theorem okX20_page (l : Launch) (E : hc_E) (A : Nat → Prop) (d : Nat)  (hD : 1 ≤ d) {x0 : Int32} {σ : hc_St} {r : Int32} (h : fm_X20_page  x0 σ = some r) (am : Nat → Nat → Nat) : hc_M l hc_V0 yX20_page (ws_ yX20_page cX20_page 1 (some .int)) d E A [.int x0] am [] σ (.inl (some (.int r))) σ := by
  have hd1 : 1 ≤ d := by omega
  refine hc_enter2 (own := RX20) [(0, .int x0)] pl_X20 rfl hc_V0_st hc_G0_nd rfl (Nat.le_of_ble_eq_true rfl) (fun X hC hem => ?_)
  unfold fm_X20_page at h
  refine hr_iload_n hC dX20_page_0 rfl ?_
  obtain ⟨v3, hv3, h⟩ := hl_ok h
  have J4 : ∀ w5 : Int32, (if x0 = 0 then (-13) else (if x0 = 1 then (-14) else (-16))) = w5 → hc_At hc_V0 E 1 X 21 [] [.int w5] σ am [] := by
    intro w5 hw5
    obtain rfl := hv3.trans hw5
    obtain rfl := Option.some.inj h
    exact hr_iret hC dX20_page_21
  refine hr_if_ne (x := _) hC 9 dX20_page_1 (by decide) (fun c6 => ?_) (fun c6 => ?_)
  · refine hr_iload_n hC dX20_page_9 rfl ?_
    refine hr_iconst (v := 1) hC dX20_page_10 rfl ?_
    refine hr_icmp_ne (x := _) hC 19 dX20_page_11 (by decide) (fun c7 => ?_) (fun c7 => ?_)
    · refine hr_bipush (v := (-16)) hC dX20_page_19 rfl ?_
      exact hr_sub _ rfl (J4 _ (by first | (rw [if_neg c6, if_neg c7]; done) | (simp only [if_neg c6, if_neg c7]; done) | rfl))
    · refine hr_bipush (v := (-14)) hC dX20_page_14 rfl ?_
      refine hr_goto hC 21 dX20_page_16 (by decide) ?_
      exact hr_sub _ rfl (J4 _ (by first | (rw [if_neg c6, if_pos c7]; done) | (simp only [if_neg c6, if_pos c7]; done) | rfl))
  · refine hr_bipush (v := (-13)) hC dX20_page_4 rfl ?_
    refine hr_goto hC 21 dX20_page_6 (by decide) ?_
    exact hr_sub _ rfl (J4 _ (by first | (rw [if_pos c6]; done) | (simp only [if_pos c6]; done) | rfl))
/-- HomeCompiler$Walker.walk(IIIZ)I -/
def fm_X20_walk  (x1 : Int32) (x2 : Int32) (x3 : Int32) (x4 : Int32) (σ : hc_St) : Option (Int32 × hc_St) := Option.bind (fm_X17_has ((((jshl ((gI σ 21 3)) 12)) + ((jshl ((jush x1 22)) 2)))) σ) fun r1 => if r1 = 0 then (Option.bind (fm_X20_access x2 σ) fun r157 => some (r157, σ)) else (Option.bind (fm_X17_watch ((((jshl ((gI σ 21 3)) 12)) + ((jshl ((jush x1 22)) 2)))) σ) fun r7 => Option.bind (fm_X17_word ((((jshl ((gI σ 21 3)) 12)) + ((jshl ((jush x1 22)) 2)))) r7) fun r11 => hl (α := Int32) ((if (r11 &&& 14) = 0 then 0 else 1)) fun v17 => if (r11 &&& 15) = 1 then (Option.bind (fm_X17_has ((((jshl ((jush r11 10)) 12)) + ((((((jshr x1 12)) &&& 1023)) * 4)))) r7) fun r78 => if r78 = 0 then (Option.bind (fm_X20_access x2 r7) fun r150 => some (r150, r7)) else (Option.bind (fm_X17_watch ((((jshl ((jush r11 10)) 12)) + ((((((jshr x1 12)) &&& 1023)) * 4)))) r7) fun r84 => Option.bind (fm_X17_word ((((jshl ((jush r11 10)) 12)) + ((((((jshr x1 12)) &&& 1023)) * 4)))) r84) fun r88 => Option.bind (fm_X20_isGood r88 x2 x3 x4 r84) fun r92 => if r92 = 0 then (Option.bind (fm_X20_page x2 r84) fun r98 => some (r98, r84)) else (if v17 = 0 then (hl (α := Int32) ((if v17 = 0 then 0 else (x1 &&& 4190208))) fun v106 => Option.bind (fm_X17_has ((((jshl ((jush r88 10)) 12)) ||| v106)) r84) fun r107 => Option.bind (α := Int32) (if r107 = 0 then (Option.bind (fm_X20_access x2 r84) fun r117 => some (r117)) else (some ((((jshl ((jush r88 10)) 12)) ||| v106)))) fun r113 => some (r113, r84)) else (if (((jshr r88 10)) &&& 1023) = 0 then (hl (α := Int32) ((if v17 = 0 then 0 else (x1 &&& 4190208))) fun v128 => Option.bind (fm_X17_has ((((jshl ((jush r88 10)) 12)) ||| v128)) r84) fun r129 => Option.bind (α := Int32) (if r129 = 0 then (Option.bind (fm_X20_access x2 r84) fun r139 => some (r139)) else (some ((((jshl ((jush r88 10)) 12)) ||| v128)))) fun r135 => some (r135, r84)) else (Option.bind (fm_X20_page x2 r84) fun r146 => some (r146, r84)))))) else (Option.bind (fm_X20_isGood r11 x2 x3 x4 r7) fun r20 => if r20 = 0 then (Option.bind (fm_X20_page x2 r7) fun r26 => some (r26, r7)) else (if v17 = 0 then (hl (α := Int32) ((if v17 = 0 then 0 else (x1 &&& 4190208))) fun v34 => Option.bind (fm_X17_has ((((jshl ((jush r11 10)) 12)) ||| v34)) r7) fun r35 => Option.bind (α := Int32) (if r35 = 0 then (Option.bind (fm_X20_access x2 r7) fun r45 => some (r45)) else (some ((((jshl ((jush r11 10)) 12)) ||| v34)))) fun r41 => some (r41, r7)) else (if (((jshr r11 10)) &&& 1023) = 0 then (hl (α := Int32) ((if v17 = 0 then 0 else (x1 &&& 4190208))) fun v56 => Option.bind (fm_X17_has ((((jshl ((jush r11 10)) 12)) ||| v56)) r7) fun r57 => Option.bind (α := Int32) (if r57 = 0 then (Option.bind (fm_X20_access x2 r7) fun r67 => some (r67)) else (some ((((jshl ((jush r11 10)) 12)) ||| v56)))) fun r63 => some (r63, r7)) else (Option.bind (fm_X20_page x2 r7) fun r74 => some (r74, r7))))))
set_option maxRecDepth 20000 in
set_option maxHeartbeats 4000000 in
theorem okX20_walk (l : Launch) (E : hc_E) (A : Nat → Prop) (d : Nat)  (hD : 2 ≤ d) {x1 : Int32} {x2 : Int32} {x3 : Int32} {x4 : Int32} {σ : hc_St} {r : (Int32 × hc_St)} (h : fm_X20_walk  x1 x2 x3 x4 σ = some r) (am : Nat → Nat → Nat) : hc_M l hc_V0 yX20_walk (ws_ yX20_walk cX20_walk 9 (some .int)) d E A [.ref (E.2.1 21), .int x1, .int x2, .int x3, .int x4] am [] σ (.inl (some (.int r.1))) r.2 := by
  have hd1 : 1 ≤ d := by omega
  refine hc_enter2 (own := RX20) [(0, .ref (E.2.1 21)), (1, .int x1), (2, .int x2), (3, .int x3), (4, .int x4)] pl_X20 rfl hc_V0_st hc_G0_nd rfl (Nat.le_of_ble_eq_true rfl) (fun X hC hem => ?_)
  unfold fm_X20_walk at h
  refine hr_aload_n hC dX20_walk_0 rfl ?_
  refine hr_gI hC F21_3 dX20_walk_1 q907 ?_
  refine hr_bipush (v := 12) hC dX20_walk_4 rfl ?_
  refine hr_ishl hC dX20_walk_6 ?_
  refine hr_iload_n hC dX20_walk_7 rfl ?_
  refine hr_bipush (v := 22) hC dX20_walk_8 rfl ?_
  refine hr_iushr hC dX20_walk_10 ?_
  refine hr_iconst (v := 2) hC dX20_walk_11 rfl ?_
  refine hr_ishl hC dX20_walk_12 ?_
  refine hr_iadd hC dX20_walk_13 ?_
  refine hr_istore hC dX20_walk_14 (by decide) ?_
  refine hr_aload_n hC dX20_walk_16 rfl ?_
  refine hr_gO 18 hC F21_0 rfl dX20_walk_17 q904 ?_
  refine hr_iload hC dX20_walk_20 rfl ?_
  obtain ⟨r1, e2, h⟩ := hx_bind h
  refine hs_callV0 hC 18 [_] _ dX20_walk_22 q2528 q2529 q2530 q331 q2531 np_X17 rfl OB_18 pd_X17_has (Nat.le_of_ble_eq_true rfl) hd1 (okX17_has l E A (d - 1)  (by omega)  e2 am) rfl ?_
  refine hr_if_ne (x := _) hC 33 dX20_walk_25 (by decide) (fun c6 => ?_) (fun c6 => ?_)
  · rw [if_neg c6] at h
    refine hr_aload_n hC dX20_walk_33 rfl ?_
    refine hr_gO 18 hC F21_0 rfl dX20_walk_34 q904 ?_
    refine hr_iload hC dX20_walk_37 rfl ?_
    obtain ⟨r7, e8, h⟩ := hx_bind h
    refine hs_callV0 hC 18 [_] _ dX20_walk_39 q2552 q2553 q2554 q331 q2555 np_X17 rfl OB_18 pd_X17_watch (Nat.le_of_ble_eq_true rfl) hd1 (okX17_watch l E A (d - 1)  (by omega)  e8 am) rfl ?_
    refine hr_aload_n hC dX20_walk_42 rfl ?_
    refine hr_gO 18 hC F21_0 rfl dX20_walk_43 q904 ?_
    refine hr_iload hC dX20_walk_46 rfl ?_
    obtain ⟨r11, e12, h⟩ := hx_bind h
    refine hs_callV0 hC 18 [_] _ dX20_walk_48 q2556 q2557 q2558 q331 q2559 np_X17 rfl OB_18 pd_X17_word (Nat.le_of_ble_eq_true rfl) hd1 (okX17_word l E A (d - 1)  (by omega)  e12 am) rfl ?_
    refine hr_istore hC dX20_walk_51 (by decide) ?_
    refine hr_iload hC dX20_walk_53 rfl ?_
    refine hr_bipush (v := 14) hC dX20_walk_55 rfl ?_
    refine hr_iand hC dX20_walk_57 ?_
    obtain ⟨v17, hv17, h⟩ := hl_ok h
    have J154 : ∀ w155 : Int32, (if (r11 &&& 14) = 0 then 0 else 1) = w155 → hc_At hc_V0 E 9 X 66 [(0, .ref (E.2.1 21)), (1, .int x1), (2, .int x2), (3, .int x3), (4, .int x4), (6, .int r11)] [.int w155] r7 am [] := by
      intro w155 hw155
      obtain rfl := hv17.trans hw155
      refine hr_istore hC dX20_walk_66 (by decide) ?_
      refine hr_iload hC dX20_walk_68 rfl ?_
      refine hr_bipush (v := 15) hC dX20_walk_70 rfl ?_
      refine hr_iand hC dX20_walk_72 ?_
      refine hr_iconst (v := 1) hC dX20_walk_73 rfl ?_
      refine hr_icmp_ne (x := _) hC 135 dX20_walk_74 (by decide) (fun c19 => ?_) (fun c19 => ?_)
      · rw [if_neg c19] at h
        refine hr_iload hC dX20_walk_135 rfl ?_
        refine hr_iload_n hC dX20_walk_137 rfl ?_
        refine hr_iload_n hC dX20_walk_138 rfl ?_
        refine hr_iload hC dX20_walk_139 rfl ?_
        obtain ⟨r20, e21, h⟩ := hx_bind h
        refine hs_callS0 hC [_, _, _, _] _ dX20_walk_141 q2560 q2561 q334 q2562 np_X20 rfl pd_X20_isGood (Nat.le_of_ble_eq_true rfl) hd1 (okX20_isGood l E A (d - 1)  (by omega)  e21 am) rfl ?_
        refine hr_if_eq (x := _) hC 164 dX20_walk_144 (by decide) (fun c25 => ?_) (fun c25 => ?_)
        · rw [if_pos c25] at h
          refine hr_iload_n hC dX20_walk_164 rfl ?_
          obtain ⟨r26, e27, h⟩ := hx_bind h
          refine hs_callS0 hC [_] _ dX20_walk_165 q2563 q2564 q334 q2565 np_X20 rfl pd_X20_page (Nat.le_of_ble_eq_true rfl) hd1 (okX20_page l E A (d - 1)  (by omega)  e27 am) rfl ?_
          obtain rfl := Option.some.inj h
          exact hr_iret hC dX20_walk_168
        · rw [if_neg c25] at h
          refine hr_iload hC dX20_walk_147 rfl ?_
          refine hr_if_eq (x := _) hC 169 dX20_walk_149 (by decide) (fun c31 => ?_) (fun c31 => ?_)
          · rw [if_pos c31] at h
            refine hr_iload hC dX20_walk_169 rfl ?_
            refine hr_bipush (v := 10) hC dX20_walk_171 rfl ?_
            refine hr_iushr hC dX20_walk_173 ?_
            refine hr_bipush (v := 12) hC dX20_walk_174 rfl ?_
            refine hr_ishl hC dX20_walk_176 ?_
            refine hr_iload hC dX20_walk_177 rfl ?_
            obtain ⟨v34, hv34, h⟩ := hl_ok h
            have J49 : ∀ w50 : Int32, (if v17 = 0 then 0 else (x1 &&& 4190208)) = w50 → hc_At hc_V0 E 9 X 190 [(0, .ref (E.2.1 21)), (2, .int x2)] [.int w50, .int (jshl ((jush r11 10)) 12)] r7 am [] := by
              intro w50 hw50
              obtain rfl := hv34.trans hw50
              refine hr_ior hC dX20_walk_190 ?_
              refine hr_istore hC dX20_walk_191 (by decide) ?_
              refine hr_aload_n hC dX20_walk_193 rfl ?_
              refine hr_gO 18 hC F21_0 rfl dX20_walk_194 q904 ?_
              refine hr_iload hC dX20_walk_197 rfl ?_
              obtain ⟨r35, e36, h⟩ := hx_bind h
              refine hs_callV0 hC 18 [_] _ dX20_walk_199 q2528 q2529 q2530 q331 q2531 np_X17 rfl OB_18 pd_X17_has (Nat.le_of_ble_eq_true rfl) hd1 (okX17_has l E A (d - 1)  (by omega)  e36 am) rfl ?_
              obtain ⟨r41, e42, h⟩ := hx_bind h
              have J43 : hc_At hc_V0 E 9 X 214 [] [.int r41] r7 am [] := by
                obtain rfl := Option.some.inj h
                exact hr_iret hC dX20_walk_214
              clear h
              have h := e42
              refine hr_if_eq (x := _) hC 210 dX20_walk_202 (by decide) (fun c40 => ?_) (fun c40 => ?_)
              · rw [if_pos c40] at h
                refine hr_iload_n hC dX20_walk_210 rfl ?_
                obtain ⟨r45, e46, h⟩ := hx_bind h
                refine hs_callS0 hC [_] _ dX20_walk_211 q2532 q2533 q334 q2534 np_X20 rfl pd_X20_access (Nat.le_of_ble_eq_true rfl) hd1 (okX20_access l E A (d - 1)  (by omega)  e46 am) rfl ?_
                obtain rfl := Option.some.inj h
                exact hr_sub _ rfl (J43)
              · rw [if_neg c40] at h
                refine hr_iload hC dX20_walk_205 rfl ?_
                refine hr_goto hC 214 dX20_walk_207 (by decide) ?_
                obtain rfl := Option.some.inj h
                exact hr_sub _ rfl (J43)
            refine hr_if_eq (x := _) hC 189 dX20_walk_179 (by decide) (fun c51 => ?_) (fun c51 => ?_)
            · refine hr_iconst (v := 0) hC dX20_walk_189 rfl ?_
              exact hr_sub _ rfl (J49 _ (by first | (rw [if_pos c51]; done) | (simp only [if_pos c51]; done) | rfl))
            · refine hr_iload_n hC dX20_walk_182 rfl ?_
              refine hr_ldc hC dX20_walk_183 q2566 ?_
              refine hr_iand hC dX20_walk_185 ?_
              refine hr_goto hC 190 dX20_walk_186 (by decide) ?_
              exact hr_sub _ rfl (J49 _ (by first | (rw [if_neg c51]; done) | (simp only [if_neg c51]; done) | rfl))
          · rw [if_neg c31] at h
            refine hr_iload hC dX20_walk_152 rfl ?_
            refine hr_bipush (v := 10) hC dX20_walk_154 rfl ?_
            refine hr_ishr hC dX20_walk_156 ?_
            refine hr_sipush (v := 1023) hC dX20_walk_157 rfl ?_
            refine hr_iand hC dX20_walk_160 ?_
            refine hr_if_eq (x := _) hC 169 dX20_walk_161 (by decide) (fun c53 => ?_) (fun c53 => ?_)
            · rw [if_pos c53] at h
              refine hr_iload hC dX20_walk_169 rfl ?_
              refine hr_bipush (v := 10) hC dX20_walk_171 rfl ?_
              refine hr_iushr hC dX20_walk_173 ?_
              refine hr_bipush (v := 12) hC dX20_walk_174 rfl ?_
              refine hr_ishl hC dX20_walk_176 ?_
              refine hr_iload hC dX20_walk_177 rfl ?_
              obtain ⟨v56, hv56, h⟩ := hl_ok h
              have J71 : ∀ w72 : Int32, (if v17 = 0 then 0 else (x1 &&& 4190208)) = w72 → hc_At hc_V0 E 9 X 190 [(0, .ref (E.2.1 21)), (2, .int x2)] [.int w72, .int (jshl ((jush r11 10)) 12)] r7 am [] := by
                intro w72 hw72
                obtain rfl := hv56.trans hw72
                refine hr_ior hC dX20_walk_190 ?_
                refine hr_istore hC dX20_walk_191 (by decide) ?_
                refine hr_aload_n hC dX20_walk_193 rfl ?_
                refine hr_gO 18 hC F21_0 rfl dX20_walk_194 q904 ?_
                refine hr_iload hC dX20_walk_197 rfl ?_
                obtain ⟨r57, e58, h⟩ := hx_bind h
                refine hs_callV0 hC 18 [_] _ dX20_walk_199 q2528 q2529 q2530 q331 q2531 np_X17 rfl OB_18 pd_X17_has (Nat.le_of_ble_eq_true rfl) hd1 (okX17_has l E A (d - 1)  (by omega)  e58 am) rfl ?_
                obtain ⟨r63, e64, h⟩ := hx_bind h
                have J65 : hc_At hc_V0 E 9 X 214 [] [.int r63] r7 am [] := by
                  obtain rfl := Option.some.inj h
                  exact hr_iret hC dX20_walk_214
                clear h
                have h := e64
                refine hr_if_eq (x := _) hC 210 dX20_walk_202 (by decide) (fun c62 => ?_) (fun c62 => ?_)
                · rw [if_pos c62] at h
                  refine hr_iload_n hC dX20_walk_210 rfl ?_
                  obtain ⟨r67, e68, h⟩ := hx_bind h
                  refine hs_callS0 hC [_] _ dX20_walk_211 q2532 q2533 q334 q2534 np_X20 rfl pd_X20_access (Nat.le_of_ble_eq_true rfl) hd1 (okX20_access l E A (d - 1)  (by omega)  e68 am) rfl ?_
                  obtain rfl := Option.some.inj h
                  exact hr_sub _ rfl (J65)
                · rw [if_neg c62] at h
                  refine hr_iload hC dX20_walk_205 rfl ?_
                  refine hr_goto hC 214 dX20_walk_207 (by decide) ?_
                  obtain rfl := Option.some.inj h
                  exact hr_sub _ rfl (J65)
              refine hr_if_eq (x := _) hC 189 dX20_walk_179 (by decide) (fun c73 => ?_) (fun c73 => ?_)
              · refine hr_iconst (v := 0) hC dX20_walk_189 rfl ?_
                exact hr_sub _ rfl (J71 _ (by first | (rw [if_pos c73]; done) | (simp only [if_pos c73]; done) | rfl))
              · refine hr_iload_n hC dX20_walk_182 rfl ?_
                refine hr_ldc hC dX20_walk_183 q2566 ?_
                refine hr_iand hC dX20_walk_185 ?_
                refine hr_goto hC 190 dX20_walk_186 (by decide) ?_
                exact hr_sub _ rfl (J71 _ (by first | (rw [if_neg c73]; done) | (simp only [if_neg c73]; done) | rfl))
            · rw [if_neg c53] at h
              refine hr_iload_n hC dX20_walk_164 rfl ?_
              obtain ⟨r74, e75, h⟩ := hx_bind h
              refine hs_callS0 hC [_] _ dX20_walk_165 q2563 q2564 q334 q2565 np_X20 rfl pd_X20_page (Nat.le_of_ble_eq_true rfl) hd1 (okX20_page l E A (d - 1)  (by omega)  e75 am) rfl ?_
              obtain rfl := Option.some.inj h
              exact hr_iret hC dX20_walk_168
      · rw [if_pos c19] at h
        refine hr_iload hC dX20_walk_77 rfl ?_
        refine hr_bipush (v := 10) hC dX20_walk_79 rfl ?_
        refine hr_iushr hC dX20_walk_81 ?_
        refine hr_bipush (v := 12) hC dX20_walk_82 rfl ?_
        refine hr_ishl hC dX20_walk_84 ?_
        refine hr_iload_n hC dX20_walk_85 rfl ?_
        refine hr_bipush (v := 12) hC dX20_walk_86 rfl ?_
        refine hr_ishr hC dX20_walk_88 ?_
        refine hr_sipush (v := 1023) hC dX20_walk_89 rfl ?_
        refine hr_iand hC dX20_walk_92 ?_
        refine hr_iconst (v := 4) hC dX20_walk_93 rfl ?_
        refine hr_imul hC dX20_walk_94 ?_
        refine hr_iadd hC dX20_walk_95 ?_
        refine hr_istore hC dX20_walk_96 (by decide) ?_
        refine hr_aload_n hC dX20_walk_98 rfl ?_
        refine hr_gO 18 hC F21_0 rfl dX20_walk_99 q904 ?_
        refine hr_iload hC dX20_walk_102 rfl ?_
        obtain ⟨r78, e79, h⟩ := hx_bind h
        refine hs_callV0 hC 18 [_] _ dX20_walk_104 q2528 q2529 q2530 q331 q2531 np_X17 rfl OB_18 pd_X17_has (Nat.le_of_ble_eq_true rfl) hd1 (okX17_has l E A (d - 1)  (by omega)  e79 am) rfl ?_
        refine hr_if_ne (x := _) hC 115 dX20_walk_107 (by decide) (fun c83 => ?_) (fun c83 => ?_)
        · rw [if_neg c83] at h
          refine hr_aload_n hC dX20_walk_115 rfl ?_
          refine hr_gO 18 hC F21_0 rfl dX20_walk_116 q904 ?_
          refine hr_iload hC dX20_walk_119 rfl ?_
          obtain ⟨r84, e85, h⟩ := hx_bind h
          refine hs_callV0 hC 18 [_] _ dX20_walk_121 q2552 q2553 q2554 q331 q2555 np_X17 rfl OB_18 pd_X17_watch (Nat.le_of_ble_eq_true rfl) hd1 (okX17_watch l E A (d - 1)  (by omega)  e85 am) rfl ?_
          refine hr_aload_n hC dX20_walk_124 rfl ?_
          refine hr_gO 18 hC F21_0 rfl dX20_walk_125 q904 ?_
          refine hr_iload hC dX20_walk_128 rfl ?_
          obtain ⟨r88, e89, h⟩ := hx_bind h
          refine hs_callV0 hC 18 [_] _ dX20_walk_130 q2556 q2557 q2558 q331 q2559 np_X17 rfl OB_18 pd_X17_word (Nat.le_of_ble_eq_true rfl) hd1 (okX17_word l E A (d - 1)  (by omega)  e89 am) rfl ?_
          refine hr_istore hC dX20_walk_133 (by decide) ?_
          refine hr_iload hC dX20_walk_135 rfl ?_
          refine hr_iload_n hC dX20_walk_137 rfl ?_
          refine hr_iload_n hC dX20_walk_138 rfl ?_
          refine hr_iload hC dX20_walk_139 rfl ?_
          obtain ⟨r92, e93, h⟩ := hx_bind h
          refine hs_callS0 hC [_, _, _, _] _ dX20_walk_141 q2560 q2561 q334 q2562 np_X20 rfl pd_X20_isGood (Nat.le_of_ble_eq_true rfl) hd1 (okX20_isGood l E A (d - 1)  (by omega)  e93 am) rfl ?_
          refine hr_if_eq (x := _) hC 164 dX20_walk_144 (by decide) (fun c97 => ?_) (fun c97 => ?_)
          · rw [if_pos c97] at h
            refine hr_iload_n hC dX20_walk_164 rfl ?_
            obtain ⟨r98, e99, h⟩ := hx_bind h
            refine hs_callS0 hC [_] _ dX20_walk_165 q2563 q2564 q334 q2565 np_X20 rfl pd_X20_page (Nat.le_of_ble_eq_true rfl) hd1 (okX20_page l E A (d - 1)  (by omega)  e99 am) rfl ?_
            obtain rfl := Option.some.inj h
            exact hr_iret hC dX20_walk_168
          · rw [if_neg c97] at h
            refine hr_iload hC dX20_walk_147 rfl ?_
            refine hr_if_eq (x := _) hC 169 dX20_walk_149 (by decide) (fun c103 => ?_) (fun c103 => ?_)
            · rw [if_pos c103] at h
              refine hr_iload hC dX20_walk_169 rfl ?_
              refine hr_bipush (v := 10) hC dX20_walk_171 rfl ?_
              refine hr_iushr hC dX20_walk_173 ?_
              refine hr_bipush (v := 12) hC dX20_walk_174 rfl ?_
              refine hr_ishl hC dX20_walk_176 ?_
              refine hr_iload hC dX20_walk_177 rfl ?_
              obtain ⟨v106, hv106, h⟩ := hl_ok h
              have J121 : ∀ w122 : Int32, (if v17 = 0 then 0 else (x1 &&& 4190208)) = w122 → hc_At hc_V0 E 9 X 190 [(0, .ref (E.2.1 21)), (2, .int x2)] [.int w122, .int (jshl ((jush r88 10)) 12)] r84 am [] := by
                intro w122 hw122
                obtain rfl := hv106.trans hw122
                refine hr_ior hC dX20_walk_190 ?_
                refine hr_istore hC dX20_walk_191 (by decide) ?_
                refine hr_aload_n hC dX20_walk_193 rfl ?_
                refine hr_gO 18 hC F21_0 rfl dX20_walk_194 q904 ?_
                refine hr_iload hC dX20_walk_197 rfl ?_
                obtain ⟨r107, e108, h⟩ := hx_bind h
                refine hs_callV0 hC 18 [_] _ dX20_walk_199 q2528 q2529 q2530 q331 q2531 np_X17 rfl OB_18 pd_X17_has (Nat.le_of_ble_eq_true rfl) hd1 (okX17_has l E A (d - 1)  (by omega)  e108 am) rfl ?_
                obtain ⟨r113, e114, h⟩ := hx_bind h
                have J115 : hc_At hc_V0 E 9 X 214 [] [.int r113] r84 am [] := by
                  obtain rfl := Option.some.inj h
                  exact hr_iret hC dX20_walk_214
                clear h
                have h := e114
                refine hr_if_eq (x := _) hC 210 dX20_walk_202 (by decide) (fun c112 => ?_) (fun c112 => ?_)
                · rw [if_pos c112] at h
                  refine hr_iload_n hC dX20_walk_210 rfl ?_
                  obtain ⟨r117, e118, h⟩ := hx_bind h
                  refine hs_callS0 hC [_] _ dX20_walk_211 q2532 q2533 q334 q2534 np_X20 rfl pd_X20_access (Nat.le_of_ble_eq_true rfl) hd1 (okX20_access l E A (d - 1)  (by omega)  e118 am) rfl ?_
                  obtain rfl := Option.some.inj h
                  exact hr_sub _ rfl (J115)
                · rw [if_neg c112] at h
                  refine hr_iload hC dX20_walk_205 rfl ?_
                  refine hr_goto hC 214 dX20_walk_207 (by decide) ?_
                  obtain rfl := Option.some.inj h
                  exact hr_sub _ rfl (J115)
              refine hr_if_eq (x := _) hC 189 dX20_walk_179 (by decide) (fun c123 => ?_) (fun c123 => ?_)
              · refine hr_iconst (v := 0) hC dX20_walk_189 rfl ?_
                exact hr_sub _ rfl (J121 _ (by first | (rw [if_pos c123]; done) | (simp only [if_pos c123]; done) | rfl))
              · refine hr_iload_n hC dX20_walk_182 rfl ?_
                refine hr_ldc hC dX20_walk_183 q2566 ?_
                refine hr_iand hC dX20_walk_185 ?_
                refine hr_goto hC 190 dX20_walk_186 (by decide) ?_
                exact hr_sub _ rfl (J121 _ (by first | (rw [if_neg c123]; done) | (simp only [if_neg c123]; done) | rfl))
            · rw [if_neg c103] at h
              refine hr_iload hC dX20_walk_152 rfl ?_
              refine hr_bipush (v := 10) hC dX20_walk_154 rfl ?_
              refine hr_ishr hC dX20_walk_156 ?_
              refine hr_sipush (v := 1023) hC dX20_walk_157 rfl ?_
              refine hr_iand hC dX20_walk_160 ?_
              refine hr_if_eq (x := _) hC 169 dX20_walk_161 (by decide) (fun c125 => ?_) (fun c125 => ?_)
              · rw [if_pos c125] at h
                refine hr_iload hC dX20_walk_169 rfl ?_
                refine hr_bipush (v := 10) hC dX20_walk_171 rfl ?_
                refine hr_iushr hC dX20_walk_173 ?_
                refine hr_bipush (v := 12) hC dX20_walk_174 rfl ?_
                refine hr_ishl hC dX20_walk_176 ?_
                refine hr_iload hC dX20_walk_177 rfl ?_
                obtain ⟨v128, hv128, h⟩ := hl_ok h
                have J143 : ∀ w144 : Int32, (if v17 = 0 then 0 else (x1 &&& 4190208)) = w144 → hc_At hc_V0 E 9 X 190 [(0, .ref (E.2.1 21)), (2, .int x2)] [.int w144, .int (jshl ((jush r88 10)) 12)] r84 am [] := by
                  intro w144 hw144
                  obtain rfl := hv128.trans hw144
                  refine hr_ior hC dX20_walk_190 ?_
                  refine hr_istore hC dX20_walk_191 (by decide) ?_
                  refine hr_aload_n hC dX20_walk_193 rfl ?_
                  refine hr_gO 18 hC F21_0 rfl dX20_walk_194 q904 ?_
                  refine hr_iload hC dX20_walk_197 rfl ?_
                  obtain ⟨r129, e130, h⟩ := hx_bind h
                  refine hs_callV0 hC 18 [_] _ dX20_walk_199 q2528 q2529 q2530 q331 q2531 np_X17 rfl OB_18 pd_X17_has (Nat.le_of_ble_eq_true rfl) hd1 (okX17_has l E A (d - 1)  (by omega)  e130 am) rfl ?_
                  obtain ⟨r135, e136, h⟩ := hx_bind h
                  have J137 : hc_At hc_V0 E 9 X 214 [] [.int r135] r84 am [] := by
                    obtain rfl := Option.some.inj h
                    exact hr_iret hC dX20_walk_214
                  clear h
                  have h := e136
                  refine hr_if_eq (x := _) hC 210 dX20_walk_202 (by decide) (fun c134 => ?_) (fun c134 => ?_)
                  · rw [if_pos c134] at h
                    refine hr_iload_n hC dX20_walk_210 rfl ?_
                    obtain ⟨r139, e140, h⟩ := hx_bind h
                    refine hs_callS0 hC [_] _ dX20_walk_211 q2532 q2533 q334 q2534 np_X20 rfl pd_X20_access (Nat.le_of_ble_eq_true rfl) hd1 (okX20_access l E A (d - 1)  (by omega)  e140 am) rfl ?_
                    obtain rfl := Option.some.inj h
                    exact hr_sub _ rfl (J137)
                  · rw [if_neg c134] at h
                    refine hr_iload hC dX20_walk_205 rfl ?_
                    refine hr_goto hC 214 dX20_walk_207 (by decide) ?_
                    obtain rfl := Option.some.inj h
                    exact hr_sub _ rfl (J137)
                refine hr_if_eq (x := _) hC 189 dX20_walk_179 (by decide) (fun c145 => ?_) (fun c145 => ?_)
                · refine hr_iconst (v := 0) hC dX20_walk_189 rfl ?_
                  exact hr_sub _ rfl (J143 _ (by first | (rw [if_pos c145]; done) | (simp only [if_pos c145]; done) | rfl))
                · refine hr_iload_n hC dX20_walk_182 rfl ?_
                  refine hr_ldc hC dX20_walk_183 q2566 ?_
                  refine hr_iand hC dX20_walk_185 ?_
                  refine hr_goto hC 190 dX20_walk_186 (by decide) ?_
                  exact hr_sub _ rfl (J143 _ (by first | (rw [if_neg c145]; done) | (simp only [if_neg c145]; done) | rfl))
              · rw [if_neg c125] at h
                refine hr_iload_n hC dX20_walk_164 rfl ?_
                obtain ⟨r146, e147, h⟩ := hx_bind h
                refine hs_callS0 hC [_] _ dX20_walk_165 q2563 q2564 q334 q2565 np_X20 rfl pd_X20_page (Nat.le_of_ble_eq_true rfl) hd1 (okX20_page l E A (d - 1)  (by omega)  e147 am) rfl ?_
                obtain rfl := Option.some.inj h
                exact hr_iret hC dX20_walk_168
        · rw [if_pos c83] at h
          refine hr_iload_n hC dX20_walk_110 rfl ?_
          obtain ⟨r150, e151, h⟩ := hx_bind h
          refine hs_callS0 hC [_] _ dX20_walk_111 q2532 q2533 q334 q2534 np_X20 rfl pd_X20_access (Nat.le_of_ble_eq_true rfl) hd1 (okX20_access l E A (d - 1)  (by omega)  e151 am) rfl ?_
          obtain rfl := Option.some.inj h
          exact hr_iret hC dX20_walk_114
    refine hr_if_eq (x := _) hC 65 dX20_walk_58 (by decide) (fun c156 => ?_) (fun c156 => ?_)
    · refine hr_iconst (v := 0) hC dX20_walk_65 rfl ?_
      exact hr_sub _ rfl (J154 _ (by first | (rw [if_pos c156]; done) | (simp only [if_pos c156]; done) | rfl))
    · refine hr_iconst (v := 1) hC dX20_walk_61 rfl ?_
      refine hr_goto hC 66 dX20_walk_62 (by decide) ?_
      exact hr_sub _ rfl (J154 _ (by first | (rw [if_neg c156]; done) | (simp only [if_neg c156]; done) | rfl))
  · rw [if_pos c6] at h
    refine hr_iload_n hC dX20_walk_28 rfl ?_
    obtain ⟨r157, e158, h⟩ := hx_bind h
    refine hs_callS0 hC [_] _ dX20_walk_29 q2532 q2533 q334 q2534 np_X20 rfl pd_X20_access (Nat.le_of_ble_eq_true rfl) hd1 (okX20_access l E A (d - 1)  (by omega)  e158 am) rfl ?_
    obtain rfl := Option.some.inj h
    exact hr_iret hC dX20_walk_32
