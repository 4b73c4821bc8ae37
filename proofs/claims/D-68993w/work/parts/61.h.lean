set_option maxRecDepth 20000
/-- HomeCompilerLaw.feed(LHomeCompiler;IIIII)I -/
def fm_X0_feed (n : Nat) (x1 : Int32) (x2 : Int32) (x3 : Int32) (x4 : Int32) (x5 : Int32) (σ : hc_St) : Option (Int32 × hc_St) := Option.bind (fm_X1_feed n x1 x2 x3 x4 x5 σ) fun r1 => if r1.1 = 0 then (some (0, r1.2.2)) else if r1.1 = 2 then (some (1, r1.2.2)) else none
set_option maxRecDepth 20000 in
set_option maxHeartbeats 4000000 in
theorem okX0_feed (l : Launch) (E : hc_E) (A : Nat → Prop) (d : Nat) (n : Nat) (hD : 15 ≤ d) {x1 : Int32} {x2 : Int32} {x3 : Int32} {x4 : Int32} {x5 : Int32} {σ : hc_St} {r : (Int32 × hc_St)} (h : fm_X0_feed n x1 x2 x3 x4 x5 σ = some r) (am : Nat → Nat → Nat) : hc_M l hc_V0 yX0_feed (wsW_ yX0_feed cX0_feed 7 (some .int) [(0, 11, 14, 13)]) d E A [.ref (E.2.1 0), .int x1, .int x2, .int x3, .int x4, .int x5] am [3, 4, 12, 22] σ (.inl (some (.int r.1))) r.2 := by
  have hd1 : 1 ≤ d := by omega
  have hd8 : 9 ≤ d := by omega
  have hd12 : 12 ≤ d := by omega
  refine hc_enter2W (own := RX0) [(0, .ref (E.2.1 0)), (1, .int x1), (2, .int x2), (3, .int x3), (4, .int x4), (5, .int x5)] pl_X0 rfl hc_V0_st hc_G0_nd rfl (Nat.le_of_ble_eq_true rfl) (fun X hC hem => ?_)
  unfold fm_X0_feed at h
  refine hr_aload_n hC dX0_feed_0 rfl ?_
  refine hr_iload_n hC dX0_feed_1 rfl ?_
  refine hr_iload_n hC dX0_feed_2 rfl ?_
  refine hr_iload_n hC dX0_feed_3 rfl ?_
  refine hr_iload hC dX0_feed_4 rfl ?_
  refine hr_iload hC dX0_feed_6 rfl ?_
  obtain ⟨r1, e2, h⟩ := hx_bind h
  by_cases z5 : r1.1 = 0
  · rw [if_pos z5] at h
    refine hs_callV hC 0 [_, _, _, _, _] _ dX0_feed_8 q2374 q2375 q2376 q315 q2377 np_X1 rfl OB_0 pd_X1_feed (Nat.le_of_ble_eq_true rfl) hd1 (hc_M0 (r := r1) (okX1_feed l E A (d - 1) n (by omega)  e2 am) z5) (hc_rb rfl) rfl (fun am3 ha4 => ?_)
    refine hr_goto hC 18 dX0_feed_11 (by decide) ?_
    refine hr_iconst (v := 0) hC dX0_feed_18 rfl ?_
    obtain rfl := Option.some.inj h
    exact hr_iret hC dX0_feed_19
  rw [if_neg z5] at h
  by_cases c9 : r1.1 = 2
  · rw [if_pos c9] at h
    refine hs_callVc hC hem 0 [_, _, _, _, _] _ dX0_feed_8 q2374 q2375 q2376 q315 q2377 np_X1 rfl OB_0 pd_X1_feed (Nat.le_of_ble_eq_true rfl) hd1 (hc_M1 (r := r1) (okX1_feed l E A (d - 1) n (by omega)  e2 am) z5) (hc_rb rfl) rfl (by rw [c9]; exact ⟨rfl, by decide, 2, q2373, Or.inl ⟨rfl, rfl⟩⟩) (fun am7 x6 ha8 => ?_)
    refine hr_astore hC dX0_feed_14 (by decide) ?_
    refine hr_iconst (v := 1) hC dX0_feed_16 rfl ?_
    obtain rfl := Option.some.inj h
    exact hr_iret hC dX0_feed_17
  rw [if_neg c9] at h
  cases h
/-- HomeCompilerLaw.end(LHomeCompiler;I)I -/
def fm_X0_end  (x1 : Int32) (σ : hc_St) : Option (Int32 × hc_St) := Option.bind (fm_X1_end x1 σ) fun r1 => if r1.1 = 0 then (some (0, r1.2.2)) else if r1.1 = 1 then (some (1, r1.2.2)) else none
set_option maxRecDepth 20000 in
set_option maxHeartbeats 4000000 in
theorem okX0_end (l : Launch) (E : hc_E) (A : Nat → Prop) (d : Nat)  (hD : 15 ≤ d) {x1 : Int32} {σ : hc_St} {r : (Int32 × hc_St)} (h : fm_X0_end  x1 σ = some r) (am : Nat → Nat → Nat) : hc_M l hc_V0 yX0_end (wsW_ yX0_end cX0_end 3 (some .int) [(0, 5, 8, 19)]) d E A [.ref (E.2.1 0), .int x1] am [] σ (.inl (some (.int r.1))) r.2 := by
  have hd1 : 1 ≤ d := by omega
  have hd8 : 9 ≤ d := by omega
  have hd12 : 12 ≤ d := by omega
  refine hc_enter2W (own := RX0) [(0, .ref (E.2.1 0)), (1, .int x1)] pl_X0 rfl hc_V0_st hc_G0_nd rfl (Nat.le_of_ble_eq_true rfl) (fun X hC hem => ?_)
  unfold fm_X0_end at h
  refine hr_aload_n hC dX0_end_0 rfl ?_
  refine hr_iload_n hC dX0_end_1 rfl ?_
  obtain ⟨r1, e2, h⟩ := hx_bind h
  by_cases z5 : r1.1 = 0
  · rw [if_pos z5] at h
    refine hs_callV0 hC 0 [_] _ dX0_end_2 q2405 q2406 q2407 q315 q2408 np_X1 rfl OB_0 pd_X1_end (Nat.le_of_ble_eq_true rfl) hd1 (hc_M0 (r := r1) (okX1_end l E A (d - 1)  (by omega)  e2 am) z5) rfl ?_
    refine hr_goto hC 11 dX0_end_5 (by decide) ?_
    refine hr_iconst (v := 0) hC dX0_end_11 rfl ?_
    obtain rfl := Option.some.inj h
    exact hr_iret hC dX0_end_12
  rw [if_neg z5] at h
  by_cases c9 : r1.1 = 1
  · rw [if_pos c9] at h
    refine hs_callVc hC hem 0 [_] _ dX0_end_2 q2405 q2406 q2407 q315 q2408 np_X1 rfl OB_0 pd_X1_end (Nat.le_of_ble_eq_true rfl) hd1 (hc_M1 (r := r1) (okX1_end l E A (d - 1)  (by omega)  e2 am) z5) (hc_rb rfl) rfl (by rw [c9]; exact ⟨rfl, by decide, 1, q2404, Or.inl ⟨rfl, rfl⟩⟩) (fun am7 x6 ha8 => ?_)
    refine hr_astore_n hC dX0_end_8 (by decide) ?_
    refine hr_iconst (v := 1) hC dX0_end_9 rfl ?_
    obtain rfl := Option.some.inj h
    exact hr_iret hC dX0_end_10
  rw [if_neg c9] at h
  cases h
/-- HomeCompilerLaw.input(LHomeCompiler;I)I -/
def fm_X0_input  (x1 : Int32) (σ : hc_St) : Option (Int32 × hc_St) := Option.bind (fm_X1_input x1 σ) fun r1 => if r1.1 = 0 then (some (0, r1.2.2)) else if r1.1 = 2 then (some (1, r1.2.2)) else none
set_option maxRecDepth 20000 in
set_option maxHeartbeats 4000000 in
theorem okX0_input (l : Launch) (E : hc_E) (A : Nat → Prop) (d : Nat)  (hD : 15 ≤ d) {x1 : Int32} {σ : hc_St} {r : (Int32 × hc_St)} (h : fm_X0_input  x1 σ = some r) (am : Nat → Nat → Nat) : hc_M l hc_V0 yX0_input (wsW_ yX0_input cX0_input 3 (some .int) [(0, 5, 8, 13)]) d E A [.ref (E.2.1 0), .int x1] am [] σ (.inl (some (.int r.1))) r.2 := by
  have hd1 : 1 ≤ d := by omega
  have hd8 : 9 ≤ d := by omega
  have hd12 : 12 ≤ d := by omega
  refine hc_enter2W (own := RX0) [(0, .ref (E.2.1 0)), (1, .int x1)] pl_X0 rfl hc_V0_st hc_G0_nd rfl (Nat.le_of_ble_eq_true rfl) (fun X hC hem => ?_)
  unfold fm_X0_input at h
  refine hr_aload_n hC dX0_input_0 rfl ?_
  refine hr_iload_n hC dX0_input_1 rfl ?_
  obtain ⟨r1, e2, h⟩ := hx_bind h
  by_cases z5 : r1.1 = 0
  · rw [if_pos z5] at h
    refine hs_callV0 hC 0 [_] _ dX0_input_2 q2416 q2417 q2418 q315 q2419 np_X1 rfl OB_0 pd_X1_input (Nat.le_of_ble_eq_true rfl) hd1 (hc_M0 (r := r1) (okX1_input l E A (d - 1)  (by omega)  e2 am) z5) rfl ?_
    refine hr_goto hC 11 dX0_input_5 (by decide) ?_
    refine hr_iconst (v := 0) hC dX0_input_11 rfl ?_
    obtain rfl := Option.some.inj h
    exact hr_iret hC dX0_input_12
  rw [if_neg z5] at h
  by_cases c9 : r1.1 = 2
  · rw [if_pos c9] at h
    refine hs_callVc hC hem 0 [_] _ dX0_input_2 q2416 q2417 q2418 q315 q2419 np_X1 rfl OB_0 pd_X1_input (Nat.le_of_ble_eq_true rfl) hd1 (hc_M1 (r := r1) (okX1_input l E A (d - 1)  (by omega)  e2 am) z5) (hc_rb rfl) rfl (by rw [c9]; exact ⟨rfl, by decide, 2, q2373, Or.inl ⟨rfl, rfl⟩⟩) (fun am7 x6 ha8 => ?_)
    refine hr_astore_n hC dX0_input_8 (by decide) ?_
    refine hr_iconst (v := 1) hC dX0_input_9 rfl ?_
    obtain rfl := Option.some.inj h
    exact hr_iret hC dX0_input_10
  rw [if_neg c9] at h
  cases h
/-- HomeCompilerLaw.run(LHomeCompiler;III[J)I -/
def fm_X0_run (n : Nat) (x1 : Int32) (x2 : Int32) (x3 : Int32) (σ : hc_St) : Option (Int32 × hc_St) := Option.bind (fm_X1_run n x1 x2 x3 σ) fun r1 => if r1.1 = 0 then (hk (inb 0 (gL r1.2.2 24 0)) <| hl (pC r1.2.2 24 0 0 r1.2.1) fun σ7 => some (0, σ7)) else if r1.1 = 2 then (some (1, r1.2.2)) else if r1.1 = 1 then (some (2, r1.2.2)) else if r1.1 = 4 then (some (3, r1.2.2)) else none
set_option maxRecDepth 20000 in
set_option maxHeartbeats 4000000 in
theorem okX0_run (l : Launch) (E : hc_E) (A : Nat → Prop) (d : Nat) (n : Nat) (hD : 15 ≤ d) {x1 : Int32} {x2 : Int32} {x3 : Int32} {σ : hc_St} {r : (Int32 × hc_St)} (h : fm_X0_run n x1 x2 x3 σ = some r) (am : Nat → Nat → Nat) : hc_M l hc_V0 yX0_run (wsW_ yX0_run cX0_run 6 (some .int) [(0, 12, 15, 13), (0, 12, 19, 19), (0, 12, 23, 28)]) d E A [.ref (E.2.1 0), .int x1, .int x2, .int x3, .ref (am 24 0)] am [] σ (.inl (some (.int r.1))) r.2 := by
  have hd1 : 1 ≤ d := by omega
  have hd8 : 9 ≤ d := by omega
  have hd12 : 12 ≤ d := by omega
  refine hc_enter2W (own := RX0) [(0, .ref (E.2.1 0)), (1, .int x1), (2, .int x2), (3, .int x3), (4, .ref (am 24 0))] pl_X0 rfl hc_V0_st hc_G0_nd rfl (Nat.le_of_ble_eq_true rfl) (fun X hC hem => ?_)
  unfold fm_X0_run at h
  refine hr_aload hC dX0_run_0 rfl ?_
  refine hr_iconst (v := 0) hC dX0_run_2 rfl ?_
  refine hr_aload_n hC dX0_run_3 rfl ?_
  refine hr_iload_n hC dX0_run_4 rfl ?_
  refine hr_iload_n hC dX0_run_5 rfl ?_
  refine hr_iload_n hC dX0_run_6 rfl ?_
  obtain ⟨r1, e2, h⟩ := hx_bind h
  by_cases z5 : r1.1 = 0
  · rw [if_pos z5] at h
    refine hs_callV0 hC 0 [_, _, _] _ dX0_run_7 q2450 q2451 q2452 q315 q2453 np_X1 rfl OB_0 pd_X1_run (Nat.le_of_ble_eq_true rfl) hd1 (hc_M0 (r := r1) (okX1_run l E A (d - 1) n (by omega)  e2 am) z5) rfl ?_
    refine hr_i2l hC dX0_run_10 ?_
    obtain ⟨c6, h⟩ := hk_ok h
    obtain ⟨σ7, hσ7, h⟩ := hl_ok h
    refine hs_last hC A24_0 c6 dX0_run_11 ?_
    rw [← hσ7]
    refine hr_goto hC 27 dX0_run_12 (by decide) ?_
    refine hr_iconst (v := 0) hC dX0_run_27 rfl ?_
    obtain rfl := Option.some.inj h
    exact hr_iret hC dX0_run_28
  rw [if_neg z5] at h
  by_cases c11 : r1.1 = 2
  · rw [if_pos c11] at h
    refine hs_callVc hC hem 0 [_, _, _] _ dX0_run_7 q2450 q2451 q2452 q315 q2453 np_X1 rfl OB_0 pd_X1_run (Nat.le_of_ble_eq_true rfl) hd1 (hc_M1 (r := r1) (okX1_run l E A (d - 1) n (by omega)  e2 am) z5) (hc_rb rfl) rfl (by rw [c11]; exact ⟨rfl, by decide, 2, q2373, Or.inl ⟨rfl, rfl⟩⟩) (fun am9 x8 ha10 => ?_)
    refine hr_astore hC dX0_run_15 (by decide) ?_
    refine hr_iconst (v := 1) hC dX0_run_17 rfl ?_
    obtain rfl := Option.some.inj h
    exact hr_iret hC dX0_run_18
  rw [if_neg c11] at h
  by_cases c15 : r1.1 = 1
  · rw [if_pos c15] at h
    refine hs_callVc hC hem 0 [_, _, _] _ dX0_run_7 q2450 q2451 q2452 q315 q2453 np_X1 rfl OB_0 pd_X1_run (Nat.le_of_ble_eq_true rfl) hd1 (hc_M1 (r := r1) (okX1_run l E A (d - 1) n (by omega)  e2 am) z5) (hc_rb rfl) rfl (by rw [c15]; exact ⟨rfl, by decide, 2, q2373, Or.inr ⟨by decide, ⟨rfl, by decide, 1, q2404, Or.inl ⟨rfl, rfl⟩⟩⟩⟩) (fun am13 x12 ha14 => ?_)
    refine hr_astore hC dX0_run_19 (by decide) ?_
    refine hr_iconst (v := 2) hC dX0_run_21 rfl ?_
    obtain rfl := Option.some.inj h
    exact hr_iret hC dX0_run_22
  rw [if_neg c15] at h
  by_cases c19 : r1.1 = 4
  · rw [if_pos c19] at h
    refine hs_callVc hC hem 0 [_, _, _] _ dX0_run_7 q2450 q2451 q2452 q315 q2453 np_X1 rfl OB_0 pd_X1_run (Nat.le_of_ble_eq_true rfl) hd1 (hc_M1 (r := r1) (okX1_run l E A (d - 1) n (by omega)  e2 am) z5) (hc_rb rfl) rfl (by rw [c19]; exact ⟨rfl, by decide, 2, q2373, Or.inr ⟨by decide, ⟨rfl, by decide, 1, q2404, Or.inr ⟨by decide, ⟨rfl, by decide, 4, q2423, Or.inl ⟨rfl, rfl⟩⟩⟩⟩⟩⟩) (fun am17 x16 ha18 => ?_)
    refine hr_astore hC dX0_run_23 (by decide) ?_
    refine hr_iconst (v := 3) hC dX0_run_25 rfl ?_
    obtain rfl := Option.some.inj h
    exact hr_iret hC dX0_run_26
  rw [if_neg c19] at h
  cases h
/-- HomeCompilerLaw.paperAt(LHomeCompiler;I[J)I -/
def fm_X0_paperAt  (x1 : Int32) (σ : hc_St) : Option (Int32 × hc_St) := Option.bind (fm_X1_paperAt x1 σ) fun r1 => if r1.1 = 0 then (hk (inb 0 (gL r1.2.2 24 0)) <| hl (pC r1.2.2 24 0 0 r1.2.1) fun σ7 => some (0, σ7)) else if r1.1 = 3 then (some (1, r1.2.2)) else none
set_option maxRecDepth 20000 in
set_option maxHeartbeats 4000000 in
theorem okX0_paperAt (l : Launch) (E : hc_E) (A : Nat → Prop) (d : Nat)  (hD : 15 ≤ d) {x1 : Int32} {σ : hc_St} {r : (Int32 × hc_St)} (h : fm_X0_paperAt  x1 σ = some r) (am : Nat → Nat → Nat) : hc_M l hc_V0 yX0_paperAt (wsW_ yX0_paperAt cX0_paperAt 4 (some .int) [(0, 9, 12, 34)]) d E A [.ref (E.2.1 0), .int x1, .ref (am 24 0)] am [] σ (.inl (some (.int r.1))) r.2 := by
  have hd1 : 1 ≤ d := by omega
  have hd8 : 9 ≤ d := by omega
  have hd12 : 12 ≤ d := by omega
  refine hc_enter2W (own := RX0) [(0, .ref (E.2.1 0)), (1, .int x1), (2, .ref (am 24 0))] pl_X0 rfl hc_V0_st hc_G0_nd rfl (Nat.le_of_ble_eq_true rfl) (fun X hC hem => ?_)
  unfold fm_X0_paperAt at h
  refine hr_aload_n hC dX0_paperAt_0 rfl ?_
  refine hr_iconst (v := 0) hC dX0_paperAt_1 rfl ?_
  refine hr_aload_n hC dX0_paperAt_2 rfl ?_
  refine hr_iload_n hC dX0_paperAt_3 rfl ?_
  obtain ⟨r1, e2, h⟩ := hx_bind h
  by_cases z5 : r1.1 = 0
  · rw [if_pos z5] at h
    refine hs_callV0 hC 0 [_] _ dX0_paperAt_4 q2705 q2706 q2707 q315 q2708 np_X1 rfl OB_0 pd_X1_paperAt (Nat.le_of_ble_eq_true rfl) hd1 (hc_M0 (r := r1) (okX1_paperAt l E A (d - 1)  (by omega)  e2 am) z5) rfl ?_
    refine hr_i2l hC dX0_paperAt_7 ?_
    obtain ⟨c6, h⟩ := hk_ok h
    obtain ⟨σ7, hσ7, h⟩ := hl_ok h
    refine hs_last hC A24_0 c6 dX0_paperAt_8 ?_
    rw [← hσ7]
    refine hr_goto hC 15 dX0_paperAt_9 (by decide) ?_
    refine hr_iconst (v := 0) hC dX0_paperAt_15 rfl ?_
    obtain rfl := Option.some.inj h
    exact hr_iret hC dX0_paperAt_16
  rw [if_neg z5] at h
  by_cases c11 : r1.1 = 3
  · rw [if_pos c11] at h
    refine hs_callVc hC hem 0 [_] _ dX0_paperAt_4 q2705 q2706 q2707 q315 q2708 np_X1 rfl OB_0 pd_X1_paperAt (Nat.le_of_ble_eq_true rfl) hd1 (hc_M1 (r := r1) (okX1_paperAt l E A (d - 1)  (by omega)  e2 am) z5) (hc_rb rfl) rfl (by rw [c11]; exact ⟨rfl, by decide, 3, q2686, Or.inl ⟨rfl, rfl⟩⟩) (fun am9 x8 ha10 => ?_)
    refine hr_astore_n hC dX0_paperAt_12 (by decide) ?_
    refine hr_iconst (v := 1) hC dX0_paperAt_13 rfl ?_
    obtain rfl := Option.some.inj h
    exact hr_iret hC dX0_paperAt_14
  rw [if_neg c11] at h
  cases h
/-- HomeCompilerLaw.disk(LHomeCompiler;I[J)I -/
def fm_X0_disk  (x1 : Int32) (σ : hc_St) : Option (Int32 × hc_St) := Option.bind (fm_X1_disk x1 σ) fun r1 => if r1.1 = 0 then (hk (inb 0 (gL r1.2.2 24 0)) <| hl (pC r1.2.2 24 0 0 r1.2.1) fun σ7 => some (0, σ7)) else if r1.1 = 3 then (some (1, r1.2.2)) else none
set_option maxRecDepth 20000 in
set_option maxHeartbeats 4000000 in
theorem okX0_disk (l : Launch) (E : hc_E) (A : Nat → Prop) (d : Nat)  (hD : 15 ≤ d) {x1 : Int32} {σ : hc_St} {r : (Int32 × hc_St)} (h : fm_X0_disk  x1 σ = some r) (am : Nat → Nat → Nat) : hc_M l hc_V0 yX0_disk (wsW_ yX0_disk cX0_disk 4 (some .int) [(0, 9, 12, 34)]) d E A [.ref (E.2.1 0), .int x1, .ref (am 24 0)] am [] σ (.inl (some (.int r.1))) r.2 := by
  have hd1 : 1 ≤ d := by omega
  have hd8 : 9 ≤ d := by omega
  have hd12 : 12 ≤ d := by omega
  refine hc_enter2W (own := RX0) [(0, .ref (E.2.1 0)), (1, .int x1), (2, .ref (am 24 0))] pl_X0 rfl hc_V0_st hc_G0_nd rfl (Nat.le_of_ble_eq_true rfl) (fun X hC hem => ?_)
  unfold fm_X0_disk at h
  refine hr_aload_n hC dX0_disk_0 rfl ?_
  refine hr_iconst (v := 0) hC dX0_disk_1 rfl ?_
  refine hr_aload_n hC dX0_disk_2 rfl ?_
  refine hr_iload_n hC dX0_disk_3 rfl ?_
  obtain ⟨r1, e2, h⟩ := hx_bind h
  by_cases z5 : r1.1 = 0
  · rw [if_pos z5] at h
    refine hs_callV0 hC 0 [_] _ dX0_disk_4 q2731 q2732 q2733 q315 q2734 np_X1 rfl OB_0 pd_X1_disk (Nat.le_of_ble_eq_true rfl) hd1 (hc_M0 (r := r1) (okX1_disk l E A (d - 1)  (by omega)  e2 am) z5) rfl ?_
    refine hr_i2l hC dX0_disk_7 ?_
    obtain ⟨c6, h⟩ := hk_ok h
    obtain ⟨σ7, hσ7, h⟩ := hl_ok h
    refine hs_last hC A24_0 c6 dX0_disk_8 ?_
    rw [← hσ7]
    refine hr_goto hC 15 dX0_disk_9 (by decide) ?_
    refine hr_iconst (v := 0) hC dX0_disk_15 rfl ?_
    obtain rfl := Option.some.inj h
    exact hr_iret hC dX0_disk_16
  rw [if_neg z5] at h
  by_cases c11 : r1.1 = 3
  · rw [if_pos c11] at h
    refine hs_callVc hC hem 0 [_] _ dX0_disk_4 q2731 q2732 q2733 q315 q2734 np_X1 rfl OB_0 pd_X1_disk (Nat.le_of_ble_eq_true rfl) hd1 (hc_M1 (r := r1) (okX1_disk l E A (d - 1)  (by omega)  e2 am) z5) (hc_rb rfl) rfl (by rw [c11]; exact ⟨rfl, by decide, 3, q2686, Or.inl ⟨rfl, rfl⟩⟩) (fun am9 x8 ha10 => ?_)
    refine hr_astore_n hC dX0_disk_12 (by decide) ?_
    refine hr_iconst (v := 1) hC dX0_disk_13 rfl ?_
    obtain rfl := Option.some.inj h
    exact hr_iret hC dX0_disk_14
  rw [if_neg c11] at h
  cases h
/-- HomeCompilerLaw.setDisk(LHomeCompiler;II)I -/
def fm_X0_setDisk  (x1 : Int32) (x2 : Int32) (σ : hc_St) : Option (Int32 × hc_St) := Option.bind (fm_X1_setDisk x1 x2 σ) fun r1 => if r1.1 = 0 then (some (0, r1.2.2)) else if r1.1 = 3 then (some (1, r1.2.2)) else none
set_option maxRecDepth 20000 in
set_option maxHeartbeats 4000000 in
theorem okX0_setDisk (l : Launch) (E : hc_E) (A : Nat → Prop) (d : Nat)  (hD : 15 ≤ d) {x1 : Int32} {x2 : Int32} {σ : hc_St} {r : (Int32 × hc_St)} (h : fm_X0_setDisk  x1 x2 σ = some r) (am : Nat → Nat → Nat) : hc_M l hc_V0 yX0_setDisk (wsW_ yX0_setDisk cX0_setDisk 4 (some .int) [(0, 6, 9, 34)]) d E A [.ref (E.2.1 0), .int x1, .int x2] am [] σ (.inl (some (.int r.1))) r.2 := by
  have hd1 : 1 ≤ d := by omega
  have hd8 : 9 ≤ d := by omega
  have hd12 : 12 ≤ d := by omega
  refine hc_enter2W (own := RX0) [(0, .ref (E.2.1 0)), (1, .int x1), (2, .int x2)] pl_X0 rfl hc_V0_st hc_G0_nd rfl (Nat.le_of_ble_eq_true rfl) (fun X hC hem => ?_)
  unfold fm_X0_setDisk at h
  refine hr_aload_n hC dX0_setDisk_0 rfl ?_
  refine hr_iload_n hC dX0_setDisk_1 rfl ?_
  refine hr_iload_n hC dX0_setDisk_2 rfl ?_
  obtain ⟨r1, e2, h⟩ := hx_bind h
  by_cases z5 : r1.1 = 0
  · rw [if_pos z5] at h
    refine hs_callV0 hC 0 [_, _] _ dX0_setDisk_3 q2738 q2739 q2740 q315 q2741 np_X1 rfl OB_0 pd_X1_setDisk (Nat.le_of_ble_eq_true rfl) hd1 (hc_M0 (r := r1) (okX1_setDisk l E A (d - 1)  (by omega)  e2 am) z5) rfl ?_
    refine hr_goto hC 12 dX0_setDisk_6 (by decide) ?_
    refine hr_iconst (v := 0) hC dX0_setDisk_12 rfl ?_
    obtain rfl := Option.some.inj h
    exact hr_iret hC dX0_setDisk_13
  rw [if_neg z5] at h
  by_cases c9 : r1.1 = 3
  · rw [if_pos c9] at h
    refine hs_callVc hC hem 0 [_, _] _ dX0_setDisk_3 q2738 q2739 q2740 q315 q2741 np_X1 rfl OB_0 pd_X1_setDisk (Nat.le_of_ble_eq_true rfl) hd1 (hc_M1 (r := r1) (okX1_setDisk l E A (d - 1)  (by omega)  e2 am) z5) (hc_rb rfl) rfl (by rw [c9]; exact ⟨rfl, by decide, 3, q2686, Or.inl ⟨rfl, rfl⟩⟩) (fun am7 x6 ha8 => ?_)
    refine hr_astore_n hC dX0_setDisk_9 (by decide) ?_
    refine hr_iconst (v := 1) hC dX0_setDisk_10 rfl ?_
    obtain rfl := Option.some.inj h
    exact hr_iret hC dX0_setDisk_11
  rw [if_neg c9] at h
  cases h
/-- HomeCompilerLaw.variable(LHomeCompiler;I[J)I -/
def fm_X0_variable  (x1 : Int32) (σ : hc_St) : Option (Int32 × hc_St) := Option.bind (fm_X1_variable_2 x1 σ) fun r1 => if r1.1 = 0 then (hk (inb 0 (gL r1.2.2 24 0)) <| hl (pC r1.2.2 24 0 0 r1.2.1) fun σ7 => some (0, σ7)) else if r1.1 = 3 then (some (1, r1.2.2)) else none
set_option maxRecDepth 20000 in
set_option maxHeartbeats 4000000 in
theorem okX0_variable (l : Launch) (E : hc_E) (A : Nat → Prop) (d : Nat)  (hD : 15 ≤ d) {x1 : Int32} {σ : hc_St} {r : (Int32 × hc_St)} (h : fm_X0_variable  x1 σ = some r) (am : Nat → Nat → Nat) : hc_M l hc_V0 yX0_variable (wsW_ yX0_variable cX0_variable 4 (some .int) [(0, 9, 12, 34)]) d E A [.ref (E.2.1 0), .int x1, .ref (am 24 0)] am [] σ (.inl (some (.int r.1))) r.2 := by
  have hd1 : 1 ≤ d := by omega
  have hd8 : 9 ≤ d := by omega
  have hd12 : 12 ≤ d := by omega
  refine hc_enter2W (own := RX0) [(0, .ref (E.2.1 0)), (1, .int x1), (2, .ref (am 24 0))] pl_X0 rfl hc_V0_st hc_G0_nd rfl (Nat.le_of_ble_eq_true rfl) (fun X hC hem => ?_)
  unfold fm_X0_variable at h
  refine hr_aload_n hC dX0_variable_0 rfl ?_
  refine hr_iconst (v := 0) hC dX0_variable_1 rfl ?_
  refine hr_aload_n hC dX0_variable_2 rfl ?_
  refine hr_iload_n hC dX0_variable_3 rfl ?_
  obtain ⟨r1, e2, h⟩ := hx_bind h
  by_cases z5 : r1.1 = 0
  · rw [if_pos z5] at h
    refine hs_callV0 hC 0 [_] _ dX0_variable_4 q2745 q2746 q2747 q315 q2748 np_X1 rfl OB_0 pd_X1_variable_2 (Nat.le_of_ble_eq_true rfl) hd1 (hc_M0 (r := r1) (okX1_variable_2 l E A (d - 1)  (by omega)  e2 am) z5) rfl ?_
    refine hr_i2l hC dX0_variable_7 ?_
    obtain ⟨c6, h⟩ := hk_ok h
    obtain ⟨σ7, hσ7, h⟩ := hl_ok h
    refine hs_last hC A24_0 c6 dX0_variable_8 ?_
    rw [← hσ7]
    refine hr_goto hC 15 dX0_variable_9 (by decide) ?_
    refine hr_iconst (v := 0) hC dX0_variable_15 rfl ?_
    obtain rfl := Option.some.inj h
    exact hr_iret hC dX0_variable_16
  rw [if_neg z5] at h
  by_cases c11 : r1.1 = 3
  · rw [if_pos c11] at h
    refine hs_callVc hC hem 0 [_] _ dX0_variable_4 q2745 q2746 q2747 q315 q2748 np_X1 rfl OB_0 pd_X1_variable_2 (Nat.le_of_ble_eq_true rfl) hd1 (hc_M1 (r := r1) (okX1_variable_2 l E A (d - 1)  (by omega)  e2 am) z5) (hc_rb rfl) rfl (by rw [c11]; exact ⟨rfl, by decide, 3, q2686, Or.inl ⟨rfl, rfl⟩⟩) (fun am9 x8 ha10 => ?_)
    refine hr_astore_n hC dX0_variable_12 (by decide) ?_
    refine hr_iconst (v := 1) hC dX0_variable_13 rfl ?_
    obtain rfl := Option.some.inj h
    exact hr_iret hC dX0_variable_14
  rw [if_neg c11] at h
  cases h
/-- HomeCompiler.read()I -/
def fm_X1_read (n : Nat) (k0 : Nat)  (σ : hc_St) : Option (Int32 × hc_St) := Option.bind (fm_X7_read n k0 σ) fun r1 => if r1.1 = 0 then (some (r1.2.1, r1.2.2)) else if r1.1 = 1 then (some ((-1), r1.2.2)) else none
set_option maxRecDepth 20000 in
set_option maxHeartbeats 4000000 in
theorem okX1_read (l : Launch) (E : hc_E) (A : Nat → Prop) (d : Nat) (n : Nat) (k0 : Nat) (hD : 2 * k0 + 25 ≤ d)  {σ : hc_St} {r : (Int32 × hc_St)} (h : fm_X1_read n k0  σ = some r) (am : Nat → Nat → Nat) : hc_M l hc_V0 yX1_read (wsW_ yX1_read cX1_read 3 (some .int) [(2, 10, 13, 108)]) d E A [.ref (E.2.1 0)] am [2, 3, 4, 6, 12, 22] σ (.inl (some (.int r.1))) r.2 := by
  have hd1 : 1 ≤ d := by omega
  have hd8 : 9 ≤ d := by omega
  have hd12 : 12 ≤ d := by omega
  refine hc_enter2W (own := RX1) [(0, .ref (E.2.1 0))] pl_X1 rfl hc_V0_st hc_G0_nd rfl (Nat.le_of_ble_eq_true rfl) (fun X hC hem => ?_)
  unfold fm_X1_read at h
  refine hr_iconst (v := (-1)) hC dX1_read_0 rfl ?_
  refine hr_istore_n hC dX1_read_1 (by decide) ?_
  refine hr_aload_n hC dX1_read_2 rfl ?_
  refine hr_gO 7 hC F0_5 rfl dX1_read_3 q996 ?_
  obtain ⟨r1, e2, h⟩ := hx_bind h
  by_cases z5 : r1.1 = 0
  · rw [if_pos z5] at h
    refine hs_callV hC 7 [] _ dX1_read_6 q1226 q1227 q1228 q321 q1229 np_X7 rfl OB_7 pd_X7_read (Nat.le_of_ble_eq_true rfl) hd1 (hc_M0 (r := r1) (okX7_read l E A (d - 1) n k0 (by omega)  e2 am) z5) (hc_rb rfl) rfl (fun am3 ha4 => ?_)
    refine hr_istore_n hC dX1_read_9 (by decide) ?_
    refine hr_goto hC 16 dX1_read_10 (by decide) ?_
    refine hr_iload_n hC dX1_read_16 rfl ?_
    obtain rfl := Option.some.inj h
    exact hr_iret hC dX1_read_17
  rw [if_neg z5] at h
  by_cases c9 : r1.1 = 1
  · rw [if_pos c9] at h
    refine hs_callVc hC hem 7 [] _ dX1_read_6 q1226 q1227 q1228 q321 q1229 np_X7 rfl OB_7 pd_X7_read (Nat.le_of_ble_eq_true rfl) hd1 (hc_M1 (r := r1) (okX7_read l E A (d - 1) n k0 (by omega)  e2 am) z5) (hc_rb rfl) rfl (by rw [c9]; exact ⟨rfl, by decide, 1, q1225, Or.inl ⟨rfl, rfl⟩⟩) (fun am7 x6 ha8 => ?_)
    refine hr_astore_n hC dX1_read_13 (by decide) ?_
    refine hr_iconst (v := (-1)) hC dX1_read_14 rfl ?_
    refine hr_istore_n hC dX1_read_15 (by decide) ?_
    refine hr_iload_n hC dX1_read_16 rfl ?_
    obtain rfl := Option.some.inj h
    exact hr_iret hC dX1_read_17
  rw [if_neg c9] at h
  cases h
/-- HomeCompiler.load()I -/
def fm_X1_load (n : Nat) (k0 : Nat)  (σ : hc_St) : Option (Int32 × hc_St) := Option.bind (fm_X3_clear n σ) fun r1 => Option.bind (fm_X4_cut 4 0 r1) fun r5 => Option.bind (fm_X6_clear  r5) fun r9 => Option.bind (fm_X8_clear n r9) fun r13 => hl (pI r13 17 4 0) fun σ17 => hl (pI σ17 17 8 0) fun σ18 => hl (pI σ18 0 15 0) fun σ19 => hl (pI σ19 0 16 0) fun σ20 => hl (pI σ20 0 11 ((-1))) fun σ21 => hl (pI σ21 0 14 0) fun σ22 => Option.bind (fm_X4_size 22 σ22) fun r23 => Option.bind (fm_X5_begin n σ22) fun r27 => Option.bind (fm_X1_read n k0 r27) fun r31 => Option.bind (fm_X4_cut 22 0 r31.2) fun r35 => if r31.1 = (-1) then (Option.bind (fm_X5_start  r35) fun r80 => hl (pI r35 0 12 ((r80 + 1))) fun σ84 => some ((-1), σ84)) else (Option.bind (fm_X8_check n k0 r31.1 0 r23 r35) fun r41 => Option.bind (fm_X8_wrong  r41) fun r45 => Option.bind (fm_X9_number  r41) fun r49 => Option.bind (α := Int32) (if r49 = 0 then (some (0)) else (Option.bind (fm_X8_wrong  r41) fun r59 => Option.bind (fm_X9_place  r41) fun r63 => some ((r63 + 1)))) fun r55 => hl (pI r41 0 12 r55) fun σ67 => Option.bind (α := hc_St) (if r49 = 0 then (hl (pI σ67 0 11 r31.1) fun σ74 => Option.bind (fm_X1_compile n k0 σ74) fun r75 => some (r75)) else (some (σ67))) fun r70 => some (r49, r70))
set_option maxRecDepth 20000 in
set_option maxHeartbeats 4000000 in
theorem okX1_load (l : Launch) (E : hc_E) (A : Nat → Prop) (d : Nat) (n : Nat) (k0 : Nat) (hD : 3 * k0 + 26 ≤ d)  {σ : hc_St} {r : (Int32 × hc_St)} (h : fm_X1_load n k0  σ = some r) (am : Nat → Nat → Nat) : hc_M l hc_V0 yX1_load (ws_ yX1_load cX1_load 4 (some .int)) d E A [.ref (E.2.1 0)] am [2, 3, 4, 6, 8, 10, 11, 12, 13, 14, 16, 22] σ (.inl (some (.int r.1))) r.2 := by
  have hd1 : 1 ≤ d := by omega
  have hd8 : 9 ≤ d := by omega
  have hd12 : 12 ≤ d := by omega
  refine hc_enter2 (own := RX1) [(0, .ref (E.2.1 0))] pl_X1 rfl hc_V0_st hc_G0_nd rfl (Nat.le_of_ble_eq_true rfl) (fun X hC hem => ?_)
  unfold fm_X1_load at h
  refine hr_aload_n hC dX1_load_0 rfl ?_
  refine hr_gO 2 hC F0_1 rfl dX1_load_1 q992 ?_
  obtain ⟨r1, e2, h⟩ := hx_bind h
  refine hs_callV0 hC 2 [] _ dX1_load_4 q983 q984 q985 q317 q986 np_X3 rfl OB_2 pd_X3_clear (Nat.le_of_ble_eq_true rfl) hd1 (okX3_clear l E A (d - 1) n (by omega)  e2 am) rfl ?_
  refine hr_aload_n hC dX1_load_7 rfl ?_
  refine hr_gO 4 hC F0_2 rfl dX1_load_8 q993 ?_
  refine hr_iconst (v := 0) hC dX1_load_11 rfl ?_
  obtain ⟨r5, e6, h⟩ := hx_bind h
  refine hs_callV0 hC 4 [_] _ dX1_load_12 q1050 q988 q989 q318 q990 np_X4 rfl OB_4 pd_X4_cut (Nat.le_of_ble_eq_true rfl) hd1 (okX4_cut l E A (d - 1)  (by omega) (by unfold hc_by; decide) e6 am) rfl ?_
  refine hr_aload_n hC dX1_load_15 rfl ?_
  refine hr_gO 6 hC F0_4 rfl dX1_load_16 q995 ?_
  obtain ⟨r9, e10, h⟩ := hx_bind h
  refine hs_callV0 hC 6 [] _ dX1_load_19 q1051 q1052 q1053 q320 q1054 np_X6 rfl OB_6 pd_X6_clear (Nat.le_of_ble_eq_true rfl) hd1 (okX6_clear l E A (d - 1)  (by omega)  e10 am) rfl ?_
  refine hr_aload_n hC dX1_load_22 rfl ?_
  refine hr_gO 8 hC F0_6 rfl dX1_load_23 q997 ?_
  obtain ⟨r13, e14, h⟩ := hx_bind h
  refine hs_callV0 hC 8 [] _ dX1_load_26 q1055 q1056 q1057 q322 q1058 np_X8 rfl OB_8 pd_X8_clear (Nat.le_of_ble_eq_true rfl) hd1 (okX8_clear l E A (d - 1) n (by omega)  e14 am) rfl ?_
  refine hr_aload_n hC dX1_load_29 rfl ?_
  refine hr_gO 17 hC F0_9 rfl dX1_load_30 q1000 ?_
  refine hr_iconst (v := 0) hC dX1_load_33 rfl ?_
  obtain ⟨σ17, hσ17, h⟩ := hl_ok h
  refine hr_pIN hC F17_4 PX16_4 dX1_load_34 (nl_4 hC.2.2.2.2.2.2.2.2.1) ?_
  rw [← hσ17]
  refine hr_aload_n hC dX1_load_37 rfl ?_
  refine hr_gO 17 hC F0_9 rfl dX1_load_38 q1000 ?_
  refine hr_iconst (v := 0) hC dX1_load_41 rfl ?_
  obtain ⟨σ18, hσ18, h⟩ := hl_ok h
  refine hr_pIN hC F17_8 PX16_8 dX1_load_42 (nl_8 hC.2.2.2.2.2.2.2.2.1) ?_
  rw [← hσ18]
  refine hr_aload_n hC dX1_load_45 rfl ?_
  refine hr_iconst (v := 0) hC dX1_load_46 rfl ?_
  obtain ⟨σ19, hσ19, h⟩ := hl_ok h
  refine hr_pZ hC F0_15 PX1_15 (by decide) dX1_load_47 q1006 ?_
  rw [← hσ19]
  refine hr_aload_n hC dX1_load_50 rfl ?_
  refine hr_iconst (v := 0) hC dX1_load_51 rfl ?_
  obtain ⟨σ20, hσ20, h⟩ := hl_ok h
  refine hr_pI hC F0_16 PX1_16 dX1_load_52 q1007 ?_
  rw [← hσ20]
  refine hr_aload_n hC dX1_load_55 rfl ?_
  refine hr_iconst (v := (-1)) hC dX1_load_56 rfl ?_
  obtain ⟨σ21, hσ21, h⟩ := hl_ok h
  refine hr_pI hC F0_11 PX1_11 dX1_load_57 q1002 ?_
  rw [← hσ21]
  refine hr_aload_n hC dX1_load_60 rfl ?_
  refine hr_iconst (v := 0) hC dX1_load_61 rfl ?_
  obtain ⟨σ22, hσ22, h⟩ := hl_ok h
  refine hr_pI hC F0_14 PX1_14 dX1_load_62 q1005 ?_
  rw [← hσ22]
  refine hr_aload_n hC dX1_load_65 rfl ?_
  refine hr_gO 22 hC F0_10 rfl dX1_load_66 q1001 ?_
  obtain ⟨r23, e24, h⟩ := hx_bind h
  refine hs_callV0 hC 22 [] _ dX1_load_69 q1067 q1068 q1069 q318 q1070 np_X4 rfl OB_22 pd_X4_size (Nat.le_of_ble_eq_true rfl) hd1 (okX4_size l E A (d - 1)  (by omega) (by unfold hc_by; decide) e24 am) rfl ?_
  refine hr_istore_n hC dX1_load_72 (by decide) ?_
  refine hr_aload_n hC dX1_load_73 rfl ?_
  refine hr_gO 5 hC F0_3 rfl dX1_load_74 q994 ?_
  refine hr_aload_n hC dX1_load_77 rfl ?_
  refine hr_gO 22 hC F0_10 rfl dX1_load_78 q1001 ?_
  obtain ⟨r27, e28, h⟩ := hx_bind h
  refine hs_callV hC 5 [_] _ dX1_load_81 q1071 q1072 q1073 q319 q1074 np_X5 rfl OB_5 pd_X5_begin (Nat.le_of_ble_eq_true rfl) hd1 (okX5_begin l E A (d - 1) n (by omega)  e28 am) (hc_rb rfl) rfl (fun am29 ha30 => ?_)
  refine hr_aload_n hC dX1_load_84 rfl ?_
  obtain ⟨r31, e32, h⟩ := hx_bind h
  refine hs_callVW hC 0 [] _ dX1_load_85 q1221 q1223 qs10 q315 q1224 np_X1 rfl OB_0 pd_X1_read (Nat.le_of_ble_eq_true rfl) hd1 (okX1_read l E A (d - 1) n k0 (by omega)  e32 am29) (hc_rb rfl) rfl (fun am33 ha34 => ?_)
  refine hr_istore_n hC dX1_load_88 (by decide) ?_
  refine hr_aload_n hC dX1_load_89 rfl ?_
  refine hr_gO 22 hC F0_10 rfl dX1_load_90 q1001 ?_
  refine hr_iconst (v := 0) hC dX1_load_93 rfl ?_
  obtain ⟨r35, e36, h⟩ := hx_bind h
  refine hs_callV0 hC 22 [_] _ dX1_load_94 q1050 q988 q989 q318 q990 np_X4 rfl OB_22 pd_X4_cut (Nat.le_of_ble_eq_true rfl) hd1 (okX4_cut l E A (d - 1)  (by omega) (by unfold hc_by; decide) e36 am33) rfl ?_
  refine hr_iload_n hC dX1_load_97 rfl ?_
  refine hr_iconst (v := (-1)) hC dX1_load_98 rfl ?_
  refine hr_icmp_ne (x := _) hC 117 dX1_load_99 (by decide) (fun c40 => ?_) (fun c40 => ?_)
  · rw [if_neg c40] at h
    refine hr_aload_n hC dX1_load_117 rfl ?_
    refine hr_gO 8 hC F0_6 rfl dX1_load_118 q997 ?_
    refine hr_iload_n hC dX1_load_121 rfl ?_
    refine hr_iconst (v := 0) hC dX1_load_122 rfl ?_
    refine hr_iload_n hC dX1_load_123 rfl ?_
    obtain ⟨r41, e42, h⟩ := hx_bind h
    refine hs_callV hC 8 [_, _, _] _ dX1_load_124 q1540 q1541 q1542 q322 q1543 np_X8 rfl OB_8 pd_X8_check (Nat.le_of_ble_eq_true rfl) hd1 (okX8_check l E A (d - 1) n k0 (by omega)  e42 am33) (hc_rb rfl) rfl (fun am43 ha44 => ?_)
    refine hr_aload_n hC dX1_load_127 rfl ?_
    refine hr_gO 8 hC F0_6 rfl dX1_load_128 q997 ?_
    obtain ⟨r45, e46, h⟩ := hx_bind h
    refine hs_callV0 hC 8 [] _ dX1_load_131 q1844 q1845 q1846 q322 q1847 np_X8 rfl OB_8 pd_X8_wrong (Nat.le_of_ble_eq_true rfl) hd1 (okX8_wrong l E A (d - 1)  (by omega)  e46 am43) rfl ?_
    obtain ⟨r49, e50, h⟩ := hx_bind h
    refine hs_callV0 hC 9 [] _ dX1_load_134 q1848 q1824 q1825 q323 q1826 np_X9 rfl OB_9 pd_X9_number (Nat.le_of_ble_eq_true rfl) hd1 (okX9_number l E A (d - 1)  (by omega)  e50 am43) rfl ?_
    refine hr_istore_n hC dX1_load_137 (by decide) ?_
    refine hr_aload_n hC dX1_load_138 rfl ?_
    refine hr_iload_n hC dX1_load_139 rfl ?_
    obtain ⟨r55, e56, h⟩ := hx_bind h
    have J57 : hc_At hc_V0 E 4 X 159 [(0, .ref (E.2.1 0)), (2, .int r31.1), (3, .int r49)] [.int r55, .ref (E.2.1 0)] r41 am43 [] := by
      obtain ⟨σ67, hσ67, h⟩ := hl_ok h
      refine hr_pI hC F0_12 PX1_12 dX1_load_159 q1003 ?_
      rw [← hσ67]
      refine hr_iload_n hC dX1_load_162 rfl ?_
      obtain ⟨r70, e71, h⟩ := hx_bind h
      have J72 : ∀ am79, hc_At hc_V0 E 4 X 175 [(3, .int r49)] [] r70 am79 [] := by
        intro am79
        refine hr_iload_n hC dX1_load_175 rfl ?_
        obtain rfl := Option.some.inj h
        exact hr_iret hC dX1_load_176
      clear h
      have h := e71
      refine hr_if_ne (x := _) hC 175 dX1_load_163 (by decide) (fun c69 => ?_) (fun c69 => ?_)
      · rw [if_neg c69] at h
        obtain rfl := Option.some.inj h
        exact hr_sub _ rfl (J72 am43)
      · rw [if_pos c69] at h
        refine hr_aload_n hC dX1_load_166 rfl ?_
        refine hr_iload_n hC dX1_load_167 rfl ?_
        obtain ⟨σ74, hσ74, h⟩ := hl_ok h
        refine hr_pI hC F0_11 PX1_11 dX1_load_168 q1002 ?_
        rw [← hσ74]
        refine hr_aload_n hC dX1_load_171 rfl ?_
        obtain ⟨r75, e76, h⟩ := hx_bind h
        refine hs_callV hC 0 [] _ dX1_load_172 q1853 q1855 qs95 q315 q1856 np_X1 rfl OB_0 pd_X1_compile (Nat.le_of_ble_eq_true rfl) hd1 (okX1_compile l E A (d - 1) n k0 (by omega)  e76 am43) (hc_rb rfl) rfl (fun am77 ha78 => ?_)
        obtain rfl := Option.some.inj h
        exact hr_sub _ rfl (J72 am77)
    clear h
    have h := e56
    refine hr_if_ne (x := _) hC 147 dX1_load_140 (by decide) (fun c54 => ?_) (fun c54 => ?_)
    · rw [if_neg c54] at h
      refine hr_aload_n hC dX1_load_147 rfl ?_
      refine hr_gO 8 hC F0_6 rfl dX1_load_148 q997 ?_
      obtain ⟨r59, e60, h⟩ := hx_bind h
      refine hs_callV0 hC 8 [] _ dX1_load_151 q1844 q1845 q1846 q322 q1847 np_X8 rfl OB_8 pd_X8_wrong (Nat.le_of_ble_eq_true rfl) hd1 (okX8_wrong l E A (d - 1)  (by omega)  e60 am43) rfl ?_
      obtain ⟨r63, e64, h⟩ := hx_bind h
      refine hs_callV0 hC 9 [] _ dX1_load_154 q1849 q1850 q1851 q323 q1852 np_X9 rfl OB_9 pd_X9_place (Nat.le_of_ble_eq_true rfl) hd1 (okX9_place l E A (d - 1)  (by omega)  e64 am43) rfl ?_
      refine hr_iconst (v := 1) hC dX1_load_157 rfl ?_
      refine hr_iadd hC dX1_load_158 ?_
      obtain rfl := Option.some.inj h
      exact hr_sub _ rfl (J57)
    · rw [if_pos c54] at h
      refine hr_iconst (v := 0) hC dX1_load_143 rfl ?_
      refine hr_goto hC 159 dX1_load_144 (by decide) ?_
      obtain rfl := Option.some.inj h
      exact hr_sub _ rfl (J57)
  · rw [if_pos c40] at h
    refine hr_aload_n hC dX1_load_102 rfl ?_
    refine hr_aload_n hC dX1_load_103 rfl ?_
    refine hr_gO 5 hC F0_3 rfl dX1_load_104 q994 ?_
    obtain ⟨r80, e81, h⟩ := hx_bind h
    refine hs_callV0 hC 5 [] _ dX1_load_107 q1539 q1259 q1260 q319 q1261 np_X5 rfl OB_5 pd_X5_start (Nat.le_of_ble_eq_true rfl) hd1 (okX5_start l E A (d - 1)  (by omega)  e81 am33) rfl ?_
    refine hr_iconst (v := 1) hC dX1_load_110 rfl ?_
    refine hr_iadd hC dX1_load_111 ?_
    obtain ⟨σ84, hσ84, h⟩ := hl_ok h
    refine hr_pI hC F0_12 PX1_12 dX1_load_112 q1003 ?_
    rw [← hσ84]
    refine hr_iconst (v := (-1)) hC dX1_load_115 rfl ?_
    obtain rfl := Option.some.inj h
    exact hr_iret hC dX1_load_116
/-- HomeCompilerModel.isText()Z -/
def fm_X21_isText (n : Nat) (k0 : Nat)  (σ : hc_St) : Option (Int32 × hc_St) := Option.bind (fm_X21_whole n k0 σ) fun r1 => if r1.1 = 0 then (some (1, r1.2.2)) else if r1.1 = 1 then (some (0, r1.2.2)) else none
set_option maxRecDepth 20000 in
set_option maxHeartbeats 4000000 in
theorem okX21_isText (l : Launch) (E : hc_E) (A : Nat → Prop) (d : Nat) (n : Nat) (k0 : Nat) (hD : 2 * k0 + 26 ≤ d)  {σ : hc_St} {r : (Int32 × hc_St)} (h : fm_X21_isText n k0  σ = some r) (am : Nat → Nat → Nat) : hc_M l hc_V0 yX21_isText (wsW_ yX21_isText cX21_isText 3 (some .boolean) [(2, 6, 9, 381)]) d E A [.ref (E.2.1 23)] am [] σ (.inl (some (.int r.1))) r.2 := by
  have hd1 : 1 ≤ d := by omega
  have hd8 : 9 ≤ d := by omega
  have hd12 : 12 ≤ d := by omega
  refine hc_enter2W (own := RX21) [(0, .ref (E.2.1 23))] pl_X21 rfl hc_V0_st hc_G0_nd rfl (Nat.le_of_ble_eq_true rfl) (fun X hC hem => ?_)
  unfold fm_X21_isText at h
  refine hr_iconst (v := 1) hC dX21_isText_0 rfl ?_
  refine hr_istore_n hC dX21_isText_1 (by decide) ?_
  refine hr_aload_n hC dX21_isText_2 rfl ?_
  obtain ⟨r1, e2, h⟩ := hx_bind h
  by_cases z5 : r1.1 = 0
  · rw [if_pos z5] at h
    refine hs_callV0 hC 23 [] _ dX21_isText_3 q3178 q3180 qs184 q335 q3181 np_X21 rfl OB_23 pd_X21_whole (Nat.le_of_ble_eq_true rfl) hd1 (hc_M0 (r := r1) (okX21_whole l E A (d - 1) n k0 (by omega)  e2 am) z5) rfl ?_
    refine hr_goto hC 12 dX21_isText_6 (by decide) ?_
    refine hr_iload_n hC dX21_isText_12 rfl ?_
    obtain rfl := Option.some.inj h
    exact hr_zret hC rfl dX21_isText_13
  rw [if_neg z5] at h
  by_cases c9 : r1.1 = 1
  · rw [if_pos c9] at h
    refine hs_callVc hC hem 23 [] _ dX21_isText_3 q3178 q3180 qs184 q335 q3181 np_X21 rfl OB_23 pd_X21_whole (Nat.le_of_ble_eq_true rfl) hd1 (hc_M1 (r := r1) (okX21_whole l E A (d - 1) n k0 (by omega)  e2 am) z5) (hc_rb rfl) rfl (by rw [c9]; exact ⟨rfl, by decide, 1, q3177, Or.inl ⟨rfl, rfl⟩⟩) (fun am7 x6 ha8 => ?_)
    refine hr_astore_n hC dX21_isText_9 (by decide) ?_
    refine hr_iconst (v := 0) hC dX21_isText_10 rfl ?_
    refine hr_istore_n hC dX21_isText_11 (by decide) ?_
    refine hr_iload_n hC dX21_isText_12 rfl ?_
    obtain rfl := Option.some.inj h
    exact hr_zret hC rfl dX21_isText_13
  rw [if_neg c9] at h
  cases h
def lp_X21_load_15 (n : Nat) (k0 : Nat) : Nat → Int32 → hc_St → Option (hc_St)
  | 0, _, _ => none
  | m + 1, y1, σ => if (gI σ 23 6) ≤ y1 then (some (σ)) else (hk (inb y1 (gL σ 23 5)) <| hk (inb y1 (gL σ 23 7)) <| hl (pC σ 23 7 y1 ((gC σ 23 5 y1).toInt8.toInt32)) fun σ7 => lp_X21_load_15 n k0 m ((y1 + 1)) σ7)
def lp_X21_load_117 (n : Nat) (k0 : Nat) : Nat → Int32 → hc_St → Option (hc_St)
  | 0, _, _ => none
  | m + 1, y1, σ => if 37000 ≤ y1 then (some (σ)) else (hk (inb y1 (gL σ 23 66)) <| hl (pC σ 23 66 y1 0) fun σ34 => lp_X21_load_117 n k0 m ((y1 + 1)) σ34)
/-- HomeCompilerModel.load()I -/
def fm_X21_load (n : Nat) (k0 : Nat)  (σ : hc_St) : Option (Int32 × hc_St) := hl (pI σ 23 4 0) fun σ1 => hl (pI σ1 23 8 ((gI σ1 23 6))) fun σ2 => Option.bind (lp_X21_load_15 n k0 n 0 σ2) fun r8 => hl (pI r8 23 6 0) fun σ13 => Option.bind (fm_X21_readTokens n σ13) fun r14 => hl (pI r14 23 15 0) fun σ18 => hl (pI σ18 23 16 0) fun σ19 => hl (pI σ19 23 17 0) fun σ20 => hl (pI σ20 23 30 0) fun σ21 => hl (pI σ21 23 28 ((-1))) fun σ22 => hl (pI σ22 23 29 ((-1))) fun σ23 => hl (pI σ23 23 34 0) fun σ24 => hl (pI σ24 23 37 0) fun σ25 => hl (pI σ25 23 46 0) fun σ26 => hl (pI σ26 23 81 0) fun σ27 => hl (pI σ27 23 78 0) fun σ28 => hl (pI σ28 23 79 0) fun σ29 => hl (pI σ29 23 65 0) fun σ30 => Option.bind (lp_X21_load_117 n k0 n 0 σ30) fun r35 => Option.bind (fm_X21_isText n k0 r35) fun r40 => if r40.1 = 0 then (hk (inb ((gI r40.2 23 15)) (gL r40.2 23 11)) <| hl (pI r40.2 23 37 ((((gC r40.2 23 11 ((gI r40.2 23 15)))) + 1))) fun σ57 => some ((-1), σ57)) else (Option.bind (fm_X21_checkText n k0 r40.2) fun r46 => if (gI r46 23 34) ≤ 0 then (hl (pI r46 23 65 1) fun σ52 => some (0, σ52)) else (hk (inb ((gI r46 23 35)) (gL r46 23 11)) <| hl (pI r46 23 37 ((((gC r46 23 11 ((gI r46 23 35)))) + 1))) fun σ54 => hl (pI σ54 23 46 0) fun σ55 => some ((gI σ55 23 34), σ55)))
set_option maxRecDepth 20000 in
set_option maxHeartbeats 4000000 in
theorem ll_X21_load_15 {l : Launch} {E : hc_E} {A : Nat → Prop} {am : Nat → Nat → Nat} {d : Nat} {X : hc_X} (n : Nat) (k0 : Nat) (hD : 3 * k0 + 27 ≤ d) (hem : X.2.2.2.2.2.2.2.2.2.1.exceptionTable.isEmpty = true) {oc : hc_Oc} {σe : hc_St} (hC : hc_C hc_V0 E cX21_load 2 RX21 (some .int) d oc σe (l, A, am, []) X) : ∀ (m : Nat) (σ : hc_St) (y1 : Int32) (rl : hc_St) (am1 : Nat → Nat → Nat), lp_X21_load_15 n k0 m y1 σ = some rl → (hc_At hc_V0 E 2 X 41 [(0, .ref (E.2.1 23))] [] rl am1 []) → hc_At hc_V0 E 2 X 15 [(0, .ref (E.2.1 23)), (1, .int y1)] [] σ am1 [] := by
  have hd1 : 1 ≤ d := by omega
  have hd8 : 9 ≤ d := by omega
  have hd12 : 12 ≤ d := by omega
  intro m
  induction m with
  | zero =>
    intro σ y1 rl am1 h
    cases h
  | succ m ih =>
    intro σ y1 rl am1 h JX
    rw [lp_X21_load_15] at h
    refine hr_iload_n hC dX21_load_15 rfl ?_
    refine hr_aload_n hC dX21_load_16 rfl ?_
    refine hr_gI hC F23_6 dX21_load_17 q2848 ?_
    refine hr_icmp_ge (x := _) hC 41 dX21_load_20 (by decide) (fun c4 => ?_) (fun c4 => ?_)
    · rw [if_pos c4] at h
      obtain rfl := Option.some.inj h
      exact hr_sub _ rfl (JX)
    · rw [if_neg c4] at h
      refine hr_aload_n hC dX21_load_23 rfl ?_
      refine hr_gA hC F23_7 rfl dX21_load_24 q2849 ?_
      refine hr_iload_n hC dX21_load_27 rfl ?_
      refine hr_aload_n hC dX21_load_28 rfl ?_
      refine hr_gA hC F23_5 rfl dX21_load_29 q2847 ?_
      refine hr_iload_n hC dX21_load_32 rfl ?_
      obtain ⟨c5, h⟩ := hk_ok h
      refine hs_bald hC A23_5 c5 dX21_load_33 ?_
      obtain ⟨c6, h⟩ := hk_ok h
      obtain ⟨σ7, hσ7, h⟩ := hl_ok h
      refine hs_bast hC A23_7 c6 dX21_load_34 ?_
      rw [← hσ7]
      refine hr_iinc (v := y1 + 1) hC dX21_load_35 rfl rfl (by decide) ?_
      refine hr_goto hC 15 dX21_load_38 (by decide) ?_
      exact hr_sub _ rfl (ih _ _ _ am1 h JX)
set_option maxRecDepth 20000 in
set_option maxHeartbeats 4000000 in
theorem ll_X21_load_117 {l : Launch} {E : hc_E} {A : Nat → Prop} {am : Nat → Nat → Nat} {d : Nat} {X : hc_X} (n : Nat) (k0 : Nat) (hD : 3 * k0 + 27 ≤ d) (hem : X.2.2.2.2.2.2.2.2.2.1.exceptionTable.isEmpty = true) {oc : hc_Oc} {σe : hc_St} (hC : hc_C hc_V0 E cX21_load 2 RX21 (some .int) d oc σe (l, A, am, []) X) : ∀ (m : Nat) (σ : hc_St) (y1 : Int32) (rl : hc_St) (am1 : Nat → Nat → Nat), lp_X21_load_117 n k0 m y1 σ = some rl → (hc_At hc_V0 E 2 X 137 [(0, .ref (E.2.1 23))] [] rl am1 []) → hc_At hc_V0 E 2 X 117 [(0, .ref (E.2.1 23)), (1, .int y1)] [] σ am1 [] := by
  have hd1 : 1 ≤ d := by omega
  have hd8 : 9 ≤ d := by omega
  have hd12 : 12 ≤ d := by omega
  intro m
  induction m with
  | zero =>
    intro σ y1 rl am1 h
    cases h
  | succ m ih =>
    intro σ y1 rl am1 h JX
    rw [lp_X21_load_117] at h
    refine hr_iload_n hC dX21_load_117 rfl ?_
    refine hr_ldcw hC dX21_load_118 q2839 ?_
    refine hr_icmp_ge (x := _) hC 137 dX21_load_121 (by decide) (fun c32 => ?_) (fun c32 => ?_)
    · rw [if_pos c32] at h
      obtain rfl := Option.some.inj h
      exact hr_sub _ rfl (JX)
    · rw [if_neg c32] at h
      refine hr_aload_n hC dX21_load_124 rfl ?_
      refine hr_gA hC F23_66 rfl dX21_load_125 q2907 ?_
      refine hr_iload_n hC dX21_load_128 rfl ?_
      refine hr_iconst (v := 0) hC dX21_load_129 rfl ?_
      obtain ⟨c33, h⟩ := hk_ok h
      obtain ⟨σ34, hσ34, h⟩ := hl_ok h
      refine hs_iast hC A23_66 c33 dX21_load_130 ?_
      rw [← hσ34]
      refine hr_iinc (v := y1 + 1) hC dX21_load_131 rfl rfl (by decide) ?_
      refine hr_goto hC 117 dX21_load_134 (by decide) ?_
      exact hr_sub _ rfl (ih _ _ _ am1 h JX)
set_option maxRecDepth 20000 in
set_option maxHeartbeats 4000000 in
theorem okX21_load (l : Launch) (E : hc_E) (A : Nat → Prop) (d : Nat) (n : Nat) (k0 : Nat) (hD : 3 * k0 + 27 ≤ d)  {σ : hc_St} {r : (Int32 × hc_St)} (h : fm_X21_load n k0  σ = some r) (am : Nat → Nat → Nat) : hc_M l hc_V0 yX21_load (ws_ yX21_load cX21_load 2 (some .int)) d E A [.ref (E.2.1 23)] am [] σ (.inl (some (.int r.1))) r.2 := by
  have hd1 : 1 ≤ d := by omega
  have hd8 : 9 ≤ d := by omega
  have hd12 : 12 ≤ d := by omega
  refine hc_enter2 (own := RX21) [(0, .ref (E.2.1 23))] pl_X21 rfl hc_V0_st hc_G0_nd rfl (Nat.le_of_ble_eq_true rfl) (fun X hC hem => ?_)
  unfold fm_X21_load at h
  refine hr_aload_n hC dX21_load_0 rfl ?_
  refine hr_iconst (v := 0) hC dX21_load_1 rfl ?_
  obtain ⟨σ1, hσ1, h⟩ := hl_ok h
  refine hr_pI hC F23_4 PX21_4 dX21_load_2 q2846 ?_
  rw [← hσ1]
  refine hr_aload_n hC dX21_load_5 rfl ?_
  refine hr_aload_n hC dX21_load_6 rfl ?_
  refine hr_gI hC F23_6 dX21_load_7 q2848 ?_
  obtain ⟨σ2, hσ2, h⟩ := hl_ok h
  refine hr_pI hC F23_8 PX21_8 dX21_load_10 q2850 ?_
  rw [← hσ2]
  refine hr_iconst (v := 0) hC dX21_load_13 rfl ?_
  refine hr_istore_n hC dX21_load_14 (by decide) ?_
  obtain ⟨r8, e9, h⟩ := hx_bind h
  refine hr_sub _ rfl (ll_X21_load_15 n k0 hD hem hC n _ _ _ am e9 ?_)
  refine hr_aload_n hC dX21_load_41 rfl ?_
  refine hr_iconst (v := 0) hC dX21_load_42 rfl ?_
  obtain ⟨σ13, hσ13, h⟩ := hl_ok h
  refine hr_pI hC F23_6 PX21_6 dX21_load_43 q2848 ?_
  rw [← hσ13]
  refine hr_aload_n hC dX21_load_46 rfl ?_
  obtain ⟨r14, e15, h⟩ := hx_bind h
  refine hs_callV0 hC 23 [] _ dX21_load_47 q3119 q3121 qs173 q335 q3122 np_X21 rfl OB_23 pd_X21_readTokens (Nat.le_of_ble_eq_true rfl) hd1 (okX21_readTokens l E A (d - 1) n (by omega)  e15 am) rfl ?_
  refine hr_aload_n hC dX21_load_50 rfl ?_
  refine hr_iconst (v := 0) hC dX21_load_51 rfl ?_
  obtain ⟨σ18, hσ18, h⟩ := hl_ok h
  refine hr_pI hC F23_15 PX21_15 dX21_load_52 q2857 ?_
  rw [← hσ18]
  refine hr_aload_n hC dX21_load_55 rfl ?_
  refine hr_iconst (v := 0) hC dX21_load_56 rfl ?_
  obtain ⟨σ19, hσ19, h⟩ := hl_ok h
  refine hr_pI hC F23_16 PX21_16 dX21_load_57 q2858 ?_
  rw [← hσ19]
  refine hr_aload_n hC dX21_load_60 rfl ?_
  refine hr_iconst (v := 0) hC dX21_load_61 rfl ?_
  obtain ⟨σ20, hσ20, h⟩ := hl_ok h
  refine hr_pI hC F23_17 PX21_17 dX21_load_62 q2859 ?_
  rw [← hσ20]
  refine hr_aload_n hC dX21_load_65 rfl ?_
  refine hr_iconst (v := 0) hC dX21_load_66 rfl ?_
  obtain ⟨σ21, hσ21, h⟩ := hl_ok h
  refine hr_pI hC F23_30 PX21_30 dX21_load_67 q2872 ?_
  rw [← hσ21]
  refine hr_aload_n hC dX21_load_70 rfl ?_
  refine hr_iconst (v := (-1)) hC dX21_load_71 rfl ?_
  obtain ⟨σ22, hσ22, h⟩ := hl_ok h
  refine hr_pI hC F23_28 PX21_28 dX21_load_72 q2870 ?_
  rw [← hσ22]
  refine hr_aload_n hC dX21_load_75 rfl ?_
  refine hr_iconst (v := (-1)) hC dX21_load_76 rfl ?_
  obtain ⟨σ23, hσ23, h⟩ := hl_ok h
  refine hr_pI hC F23_29 PX21_29 dX21_load_77 q2871 ?_
  rw [← hσ23]
  refine hr_aload_n hC dX21_load_80 rfl ?_
  refine hr_iconst (v := 0) hC dX21_load_81 rfl ?_
  obtain ⟨σ24, hσ24, h⟩ := hl_ok h
  refine hr_pI hC F23_34 PX21_34 dX21_load_82 q2876 ?_
  rw [← hσ24]
  refine hr_aload_n hC dX21_load_85 rfl ?_
  refine hr_iconst (v := 0) hC dX21_load_86 rfl ?_
  obtain ⟨σ25, hσ25, h⟩ := hl_ok h
  refine hr_pI hC F23_37 PX21_37 dX21_load_87 q2878 ?_
  rw [← hσ25]
  refine hr_aload_n hC dX21_load_90 rfl ?_
  refine hr_iconst (v := 0) hC dX21_load_91 rfl ?_
  obtain ⟨σ26, hσ26, h⟩ := hl_ok h
  refine hr_pI hC F23_46 PX21_46 dX21_load_92 q2887 ?_
  rw [← hσ26]
  refine hr_aload_n hC dX21_load_95 rfl ?_
  refine hr_iconst (v := 0) hC dX21_load_96 rfl ?_
  obtain ⟨σ27, hσ27, h⟩ := hl_ok h
  refine hr_pI hC F23_81 PX21_81 dX21_load_97 q2922 ?_
  rw [← hσ27]
  refine hr_aload_n hC dX21_load_100 rfl ?_
  refine hr_iconst (v := 0) hC dX21_load_101 rfl ?_
  obtain ⟨σ28, hσ28, h⟩ := hl_ok h
  refine hr_pI hC F23_78 PX21_78 dX21_load_102 q2919 ?_
  rw [← hσ28]
  refine hr_aload_n hC dX21_load_105 rfl ?_
  refine hr_iconst (v := 0) hC dX21_load_106 rfl ?_
  obtain ⟨σ29, hσ29, h⟩ := hl_ok h
  refine hr_pI hC F23_79 PX21_79 dX21_load_107 q2920 ?_
  rw [← hσ29]
  refine hr_aload_n hC dX21_load_110 rfl ?_
  refine hr_iconst (v := 0) hC dX21_load_111 rfl ?_
  obtain ⟨σ30, hσ30, h⟩ := hl_ok h
  refine hr_pZ hC F23_65 PX21_65 (by decide) dX21_load_112 q2906 ?_
  rw [← hσ30]
  refine hr_iconst (v := 0) hC dX21_load_115 rfl ?_
  refine hr_istore_n hC dX21_load_116 (by decide) ?_
  obtain ⟨r35, e36, h⟩ := hx_bind h
  refine hr_sub _ rfl (ll_X21_load_117 n k0 hD hem hC n _ _ _ am e36 ?_)
  refine hr_aload_n hC dX21_load_137 rfl ?_
  obtain ⟨r40, e41, h⟩ := hx_bind h
  refine hs_callV0W hC 23 [] _ dX21_load_138 q3173 q3175 qs183 q335 q3176 np_X21 rfl OB_23 pd_X21_isText (Nat.le_of_ble_eq_true rfl) hd1 (okX21_isText l E A (d - 1) n k0 (by omega)  e41 am) rfl ?_
  refine hr_if_ne (x := _) hC 161 dX21_load_141 (by decide) (fun c45 => ?_) (fun c45 => ?_)
  · rw [if_neg c45] at h
    refine hr_aload_n hC dX21_load_161 rfl ?_
    obtain ⟨r46, e47, h⟩ := hx_bind h
    refine hs_callV0 hC 23 [] _ dX21_load_162 q3374 q3376 qs230 q335 q3377 np_X21 rfl OB_23 pd_X21_checkText (Nat.le_of_ble_eq_true rfl) hd1 (okX21_checkText l E A (d - 1) n k0 (by omega)  e47 am) rfl ?_
    refine hr_aload_n hC dX21_load_165 rfl ?_
    refine hr_gI hC F23_34 dX21_load_166 q2876 ?_
    refine hr_if_le (x := _) hC 197 dX21_load_169 (by decide) (fun c51 => ?_) (fun c51 => ?_)
    · rw [if_pos c51] at h
      refine hr_aload_n hC dX21_load_197 rfl ?_
      refine hr_iconst (v := 1) hC dX21_load_198 rfl ?_
      obtain ⟨σ52, hσ52, h⟩ := hl_ok h
      refine hr_pZ hC F23_65 PX21_65 (by decide) dX21_load_199 q2906 ?_
      rw [← hσ52]
      refine hr_iconst (v := 0) hC dX21_load_202 rfl ?_
      obtain rfl := Option.some.inj h
      exact hr_iret hC dX21_load_203
    · rw [if_neg c51] at h
      refine hr_aload_n hC dX21_load_172 rfl ?_
      refine hr_aload_n hC dX21_load_173 rfl ?_
      refine hr_gA hC F23_11 rfl dX21_load_174 q2853 ?_
      refine hr_aload_n hC dX21_load_177 rfl ?_
      refine hr_gI hC F23_35 dX21_load_178 q2877 ?_
      obtain ⟨c53, h⟩ := hk_ok h
      refine hs_iald hC A23_11 c53 dX21_load_181 ?_
      refine hr_iconst (v := 1) hC dX21_load_182 rfl ?_
      refine hr_iadd hC dX21_load_183 ?_
      obtain ⟨σ54, hσ54, h⟩ := hl_ok h
      refine hr_pI hC F23_37 PX21_37 dX21_load_184 q2878 ?_
      rw [← hσ54]
      refine hr_aload_n hC dX21_load_187 rfl ?_
      refine hr_iconst (v := 0) hC dX21_load_188 rfl ?_
      obtain ⟨σ55, hσ55, h⟩ := hl_ok h
      refine hr_pI hC F23_46 PX21_46 dX21_load_189 q2887 ?_
      rw [← hσ55]
      refine hr_aload_n hC dX21_load_192 rfl ?_
      refine hr_gI hC F23_34 dX21_load_193 q2876 ?_
      obtain rfl := Option.some.inj h
      exact hr_iret hC dX21_load_196
  · rw [if_pos c45] at h
    refine hr_aload_n hC dX21_load_144 rfl ?_
    refine hr_aload_n hC dX21_load_145 rfl ?_
    refine hr_gA hC F23_11 rfl dX21_load_146 q2853 ?_
    refine hr_aload_n hC dX21_load_149 rfl ?_
    refine hr_gI hC F23_15 dX21_load_150 q2857 ?_
    obtain ⟨c56, h⟩ := hk_ok h
    refine hs_iald hC A23_11 c56 dX21_load_153 ?_
    refine hr_iconst (v := 1) hC dX21_load_154 rfl ?_
    refine hr_iadd hC dX21_load_155 ?_
    obtain ⟨σ57, hσ57, h⟩ := hl_ok h
    refine hr_pI hC F23_37 PX21_37 dX21_load_156 q2878 ?_
    rw [← hσ57]
    refine hr_iconst (v := (-1)) hC dX21_load_159 rfl ?_
    obtain rfl := Option.some.inj h
    exact hr_iret hC dX21_load_160
