set_option maxRecDepth 20000
def okg_X7_block (l : Launch) (E : hc_E) (A : Nat → Prop) (d : Nat) (am : Nat → Nat → Nat) (w : Nat) (a : List Int32) (σ : hc_St) (r : (Nat × Int32 × hc_St)) : Prop := match w with
  | 0 => hc_M l hc_V0 yX7_block (ws_ yX7_block cX7_block 2 (some .int)) d E A [.ref (E.2.1 7)] am [2, 3, 4, 6, 12, 22] σ (hc_ot (fun v => some (.int v)) r) r.2.2
  | 1 => hc_M l hc_V0 yX7_statement (ws_ yX7_statement cX7_statement 4 (some .int)) d E A [.ref (E.2.1 7)] am [2, 3, 4, 6, 12, 22] σ (hc_ot (fun v => some (.int v)) r) r.2.2
  | 2 => hc_M l hc_V0 yX7_choosing (ws_ yX7_choosing cX7_choosing 3 (some .int)) d E A [.ref (E.2.1 7), .int (a.getD 0 0)] am [2, 3, 4, 6, 12, 22] σ (hc_ot (fun v => some (.int v)) r) r.2.2
  | 3 => hc_M l hc_V0 yX7_looping (ws_ yX7_looping cX7_looping 3 (some .int)) d E A [.ref (E.2.1 7), .int (a.getD 0 0)] am [2, 3, 4, 6, 12, 22] σ (hc_ot (fun v => some (.int v)) r) r.2.2
  | 4 => hc_M l hc_V0 yX7_doing (ws_ yX7_doing cX7_doing 3 (some .int)) d E A [.ref (E.2.1 7), .int (a.getD 0 0)] am [2, 3, 4, 6, 12, 22] σ (hc_ot (fun v => some (.int v)) r) r.2.2
  | 5 => hc_M l hc_V0 yX7_counting (ws_ yX7_counting cX7_counting 3 (some .int)) d E A [.ref (E.2.1 7), .int (a.getD 0 0)] am [2, 3, 4, 6, 12, 22] σ (hc_ot (fun v => some (.int v)) r) r.2.2
  | 6 => hc_M l hc_V0 yX7_switching (ws_ yX7_switching cX7_switching 3 (some .int)) d E A [.ref (E.2.1 7), .int (a.getD 0 0)] am [2, 3, 4, 6, 12, 22] σ (hc_ot (fun v => some (.int v)) r) r.2.2
  | 7 => hc_M l hc_V0 yX7_part (ws_ yX7_part cX7_part 3 (some .int)) d E A [.ref (E.2.1 7)] am [2, 3, 4, 6, 12, 22] σ (hc_ot (fun v => some (.int v)) r) r.2.2
  | _ => True
def lp_X7_block_25 (n : Nat) (k0 : Nat) (rec : Nat → List Int32 → hc_St → Option (Nat × Int32 × hc_St)) : Nat → Int32 → hc_St → Option (Nat × hc_St × Int32)
  | 0, _, _ => none
  | m + 1, y1, σ => Option.bind (fm_X7_is 125 σ) fun r14 => if r14 = 0 then (Option.bind (rec 1 [] σ) fun r20 => hv r20 (0) <| Option.bind (fm_X6_hang y1 r20.2.1 r20.2.2) fun r25 => lp_X7_block_25 n k0 rec m y1 r25) else (some (0, σ, 0))
/-- HomeCompiler$Reader.block()I -/
def bd_X7_block (n : Nat) (k0 : Nat) (rec : Nat → List Int32 → hc_St → Option (Nat × Int32 × hc_St))  (σ : hc_St) : Option (Nat × Int32 × hc_St) := Option.bind (fm_X5_start  σ) fun r1 => Option.bind (fm_X6_make 10 0 0 r1 σ) fun r5 => Option.bind (fm_X7_bracket n 123 r5.2) fun r9 => ht r9 <| Option.bind (lp_X7_block_25 n k0 rec n r5.1 r9.2.2) fun r29 => hu r29 <| Option.bind (fm_X7_closes n 125 r29.2.1) fun r34 => ht r34 <| some (0, r5.1, r34.2.2)
set_option maxRecDepth 20000 in
set_option maxHeartbeats 4000000 in
theorem ll_X7_block_25 {l : Launch} {E : hc_E} {A : Nat → Prop} {am : Nat → Nat → Nat} {d : Nat} {kk : Nat} {X : hc_X} (n : Nat) (k0 : Nat) (rec : Nat → List Int32 → hc_St → Option (Nat × Int32 × hc_St)) (hD : kk + 1 * k0 + 21 ≤ d) (hem : X.2.2.2.2.2.2.2.2.2.1.exceptionTable.isEmpty = true) (IH : ∀ (w : Nat) (a : List Int32) (σ : hc_St) (r : (Nat × Int32 × hc_St)), rec w a σ = some r → ∀ am, okg_X7_block l E A (d - 1) am w a σ r) {oc : hc_Oc} {σe : hc_St} (hC : hc_C hc_V0 E cX7_block 2 RX7 (some .int) d oc σe (l, A, am, [2, 3, 4, 6, 12, 22]) X) : ∀ (m : Nat) (σ : hc_St) (y1 : Int32) (rl : Nat × hc_St × Int32), lp_X7_block_25 n k0 rec m y1 σ = some rl → (rl.1 = 0 → ∀ am1, hc_At hc_V0 E 2 X 49 [(0, .ref (E.2.1 7)), (1, .int y1)] [] rl.2.1 am1 []) → (rl.1 ≠ 0 → hc_C hc_V0 E cX7_block 2 RX7 (some .int) d (.inr rl.1) rl.2.1 (l, A, am, [2, 3, 4, 6, 12, 22]) X) → ∀ am1, hc_At hc_V0 E 2 X 25 [(0, .ref (E.2.1 7)), (1, .int y1)] [] σ am1 [] := by
  have hd1 : 1 ≤ d := by omega
  have hd8 : 9 ≤ d := by omega
  have hd12 : 12 ≤ d := by omega
  intro m
  induction m with
  | zero =>
    intro σ y1 rl h
    cases h
  | succ m ih =>
    intro σ y1 rl h JX HX am1
    rw [lp_X7_block_25] at h
    refine hr_aload_n hC dX7_block_25 rfl ?_
    refine hr_bipush (v := 125) hC dX7_block_26 rfl ?_
    obtain ⟨r14, e15, h⟩ := hx_bind h
    refine hs_callV0 hC 7 [_] _ dX7_block_28 q1242 q1244 qs12 q321 q1245 np_X7 rfl OB_7 pd_X7_is (Nat.le_of_ble_eq_true rfl) hd1 (okX7_is l E A (d - 1)  (by omega)  e15 am1) rfl ?_
    refine hr_if_ne (x := _) hC 49 dX7_block_31 (by decide) (fun c19 => ?_) (fun c19 => ?_)
    · rw [if_neg c19] at h
      obtain rfl := Option.some.inj h
      exact hr_sub _ rfl (JX rfl am1)
    · rw [if_pos c19] at h
      refine hr_aload_n hC dX7_block_34 rfl ?_
      refine hr_gO 6 hC F7_1 rfl dX7_block_35 q566 ?_
      refine hr_iload_n hC dX7_block_38 rfl ?_
      refine hr_aload_n hC dX7_block_39 rfl ?_
      obtain ⟨r20, e21, h⟩ := hx_bind h
      by_cases z24 : r20.1 = 0
      · rw [hv_0 z24] at h
        refine hs_callV hC 7 [] _ dX7_block_40 q1470 q1472 qs40 q321 q1473 np_X7 rfl OB_7 pd_X7_statement (Nat.le_of_ble_eq_true rfl) hd1 (hc_M0 (r := r20) (IH _ _ _ _ e21 am1) z24) (hc_rb rfl) rfl (fun am22 ha23 => ?_)
        obtain ⟨r25, e26, h⟩ := hx_bind h
        refine hs_callV0 hC 6 [_, _] _ dX7_block_43 q1412 q1378 q1379 q320 q1380 np_X6 rfl OB_6 pd_X6_hang (Nat.le_of_ble_eq_true rfl) hd1 (okX6_hang l E A (d - 1)  (by omega)  e26 am22) rfl ?_
        refine hr_goto hC 25 dX7_block_46 (by decide) ?_
        exact hr_sub _ rfl (ih _ _ _ h JX HX am22)
      · rw [hv_1 z24] at h
        obtain rfl := Option.some.inj h
        exact hs_callVx (HX z24) hem 7 [] _ dX7_block_40 q1470 q1472 qs40 q321 q1473 np_X7 rfl OB_7 pd_X7_statement (Nat.le_of_ble_eq_true rfl) hd1 (hc_M1 (r := r20) (IH _ _ _ _ e21 am1) z24) (hc_rb rfl) rfl
set_option maxRecDepth 20000 in
set_option maxHeartbeats 4000000 in
theorem okbX7_block (l : Launch) (E : hc_E) (A : Nat → Prop) (d : Nat) {kk : Nat} (n : Nat) (k0 : Nat) (rec : Nat → List Int32 → hc_St → Option (Nat × Int32 × hc_St)) (hD : kk + 1 * k0 + 21 ≤ d) (IH : ∀ (w : Nat) (a : List Int32) (σ : hc_St) (r : (Nat × Int32 × hc_St)), rec w a σ = some r → ∀ am, okg_X7_block l E A (d - 1) am w a σ r)  {σ : hc_St} {r : (Nat × Int32 × hc_St)} (h : bd_X7_block n k0 rec  σ = some r) (am : Nat → Nat → Nat) : hc_M l hc_V0 yX7_block (ws_ yX7_block cX7_block 2 (some .int)) d E A [.ref (E.2.1 7)] am [2, 3, 4, 6, 12, 22] σ (hc_ot (fun v => some (.int v)) r) r.2.2 := by
  have hd1 : 1 ≤ d := by omega
  have hd8 : 9 ≤ d := by omega
  have hd12 : 12 ≤ d := by omega
  refine hc_enter2 (own := RX7) [(0, .ref (E.2.1 7))] pl_X7 rfl hc_V0_st hc_G0_nd rfl (Nat.le_of_ble_eq_true rfl) (fun X hC hem => ?_)
  have HX := fun z => hc_CX hC z
  unfold bd_X7_block at h
  refine hr_aload_n hC dX7_block_0 rfl ?_
  refine hr_gO 6 hC F7_1 rfl dX7_block_1 q566 ?_
  refine hr_bipush (v := 10) hC dX7_block_4 rfl ?_
  refine hr_iconst (v := 0) hC dX7_block_6 rfl ?_
  refine hr_iconst (v := 0) hC dX7_block_7 rfl ?_
  refine hr_aload_n hC dX7_block_8 rfl ?_
  refine hr_gO 5 hC F7_0 rfl dX7_block_9 q565 ?_
  obtain ⟨r1, e2, h⟩ := hx_bind h
  refine hs_callV0 hC 5 [] _ dX7_block_12 q1258 q1259 q1260 q319 q1261 np_X5 rfl OB_5 pd_X5_start (Nat.le_of_ble_eq_true rfl) hd1 (okX5_start l E A (d - 1)  (by omega)  e2 am) rfl ?_
  obtain ⟨r5, e6, h⟩ := hx_bind h
  refine hs_callV hC 6 [_, _, _, _] _ dX7_block_15 q1230 q1231 q1232 q320 q1233 np_X6 rfl OB_6 pd_X6_make (Nat.le_of_ble_eq_true rfl) hd1 (okX6_make l E A (d - 1)  (by omega)  e6 am) (hc_rb rfl) rfl (fun am7 ha8 => ?_)
  refine hr_istore_n hC dX7_block_18 (by decide) ?_
  refine hr_aload_n hC dX7_block_19 rfl ?_
  refine hr_bipush (v := 123) hC dX7_block_20 rfl ?_
  obtain ⟨r9, e10, h⟩ := hx_bind h
  by_cases z13 : r9.1 = 0
  · rw [ht_0 z13] at h
    refine hs_callV hC 7 [_] _ dX7_block_22 q1263 q1265 qs15 q321 q1266 np_X7 rfl OB_7 pd_X7_bracket (Nat.le_of_ble_eq_true rfl) hd1 (hc_M0 (r := r9) (okX7_bracket l E A (d - 1) n (by omega)  e10 am7) z13) (hc_rb rfl) rfl (fun am11 ha12 => ?_)
    obtain ⟨r29, e30, h⟩ := hx_bind h
    refine hr_sub _ rfl (ll_X7_block_25 n k0 rec hD hem IH hC n _ _ _ e30 (fun z32 am33 => ?_) (fun z32 => ?_) am11)
    · rw [hu_0 z32] at h
      refine hr_aload_n hC dX7_block_49 rfl ?_
      refine hr_bipush (v := 125) hC dX7_block_50 rfl ?_
      obtain ⟨r34, e35, h⟩ := hx_bind h
      by_cases z38 : r34.1 = 0
      · rw [ht_0 z38] at h
        refine hs_callV hC 7 [_] _ dX7_block_52 q1438 q1440 qs33 q321 q1441 np_X7 rfl OB_7 pd_X7_closes (Nat.le_of_ble_eq_true rfl) hd1 (hc_M0 (r := r34) (okX7_closes l E A (d - 1) n (by omega)  e35 am33) z38) (hc_rb rfl) rfl (fun am36 ha37 => ?_)
        refine hr_iload_n hC dX7_block_55 rfl ?_
        obtain rfl := Option.some.inj h
        exact hr_iret hC dX7_block_56
      · rw [ht_1 z38] at h
        obtain rfl := Option.some.inj h
        exact hs_callVx (HX z38) hem 7 [_] _ dX7_block_52 q1438 q1440 qs33 q321 q1441 np_X7 rfl OB_7 pd_X7_closes (Nat.le_of_ble_eq_true rfl) hd1 (hc_M1 (r := r34) (okX7_closes l E A (d - 1) n (by omega)  e35 am33) z38) (hc_rb rfl) rfl
    · rw [hu_1 z32] at h
      obtain rfl := Option.some.inj h
      exact HX z32
  · rw [ht_1 z13] at h
    obtain rfl := Option.some.inj h
    exact hs_callVx (HX z13) hem 7 [_] _ dX7_block_22 q1263 q1265 qs15 q321 q1266 np_X7 rfl OB_7 pd_X7_bracket (Nat.le_of_ble_eq_true rfl) hd1 (hc_M1 (r := r9) (okX7_bracket l E A (d - 1) n (by omega)  e10 am7) z13) (hc_rb rfl) rfl
/-- HomeCompiler$Reader.statement()I -/
def bd_X7_statement (n : Nat) (k0 : Nat) (rec : Nat → List Int32 → hc_St → Option (Nat × Int32 × hc_St))  (σ : hc_St) : Option (Nat × Int32 × hc_St) := Option.bind (fm_X5_start  σ) fun r1 => Option.bind (fm_X7_is 123 σ) fun r5 => if r5 = 0 then (Option.bind (fm_X7_isDeclaration  σ) fun r11 => if r11 = 0 then (Option.bind (fm_X7_takes n 59 σ) fun r17 => if r17.1 = 0 then (Option.bind (fm_X5_token  r17.2) fun r23 => if (r23 - 200) = 4 then (Option.bind (rec 2 [r1] r17.2) fun r45 => ht r45 <| some (0, r45.2.1, r45.2.2)) else if (r23 - 200) = 6 then (Option.bind (rec 3 [r1] r17.2) fun r50 => ht r50 <| some (0, r50.2.1, r50.2.2)) else if (r23 - 200) = 7 then (Option.bind (rec 4 [r1] r17.2) fun r55 => ht r55 <| some (0, r55.2.1, r55.2.2)) else if (r23 - 200) = 8 then (Option.bind (rec 5 [r1] r17.2) fun r60 => ht r60 <| some (0, r60.2.1, r60.2.2)) else if (r23 - 200) = 9 then (Option.bind (rec 6 [r1] r17.2) fun r65 => ht r65 <| some (0, r65.2.1, r65.2.2)) else if (r23 - 200) = 12 then (Option.bind (fm_X7_isWord 12 r17.2) fun r70 => hl (α := Int32) ((if r70 = 0 then 21 else 20)) fun v76 => Option.bind (fm_X6_make v76 0 0 r1 r17.2) fun r77 => Option.bind (fm_X5_next n r77.2) fun r81 => Option.bind (fm_X7_take n 59 r81) fun r85 => ht r85 <| some (0, r77.1, r85.2.2)) else if (r23 - 200) = 13 then (Option.bind (fm_X7_isWord 12 r17.2) fun r93 => hl (α := Int32) ((if r93 = 0 then 21 else 20)) fun v99 => Option.bind (fm_X6_make v99 0 0 r1 r17.2) fun r100 => Option.bind (fm_X5_next n r100.2) fun r104 => Option.bind (fm_X7_take n 59 r104) fun r108 => ht r108 <| some (0, r100.1, r108.2.2)) else if (r23 - 200) = 14 then (Option.bind (fm_X7_returning n k0 r1 r17.2) fun r116 => ht r116 <| some (0, r116.2.1, r116.2.2)) else (Option.bind (fm_X7_expression n k0 r17.2) fun r27 => ht r27 <| Option.bind (fm_X6_over 12 0 r27.2.1 r27.2.2) fun r32 => Option.bind (fm_X6_setPlace r32.1 r1 r32.2) fun r36 => Option.bind (fm_X7_take n 59 r36) fun r40 => ht r40 <| some (0, r32.1, r40.2.2))) else (Option.bind (fm_X6_make 11 0 0 r1 r17.2) fun r129 => some (0, r129.1, r129.2))) else (Option.bind (fm_X7_variables n k0 σ) fun r133 => ht r133 <| some (0, r133.2.1, r133.2.2))) else (Option.bind (rec 0 [] σ) fun r138 => ht r138 <| some (0, r138.2.1, r138.2.2))
set_option maxRecDepth 20000 in
set_option maxHeartbeats 4000000 in
theorem okbX7_statement (l : Launch) (E : hc_E) (A : Nat → Prop) (d : Nat) {kk : Nat} (n : Nat) (k0 : Nat) (rec : Nat → List Int32 → hc_St → Option (Nat × Int32 × hc_St)) (hD : kk + 1 * k0 + 21 ≤ d) (IH : ∀ (w : Nat) (a : List Int32) (σ : hc_St) (r : (Nat × Int32 × hc_St)), rec w a σ = some r → ∀ am, okg_X7_block l E A (d - 1) am w a σ r)  {σ : hc_St} {r : (Nat × Int32 × hc_St)} (h : bd_X7_statement n k0 rec  σ = some r) (am : Nat → Nat → Nat) : hc_M l hc_V0 yX7_statement (ws_ yX7_statement cX7_statement 4 (some .int)) d E A [.ref (E.2.1 7)] am [2, 3, 4, 6, 12, 22] σ (hc_ot (fun v => some (.int v)) r) r.2.2 := by
  have hd1 : 1 ≤ d := by omega
  have hd8 : 9 ≤ d := by omega
  have hd12 : 12 ≤ d := by omega
  refine hc_enter2 (own := RX7) [(0, .ref (E.2.1 7))] pl_X7 rfl hc_V0_st hc_G0_nd rfl (Nat.le_of_ble_eq_true rfl) (fun X hC hem => ?_)
  have HX := fun z => hc_CX hC z
  unfold bd_X7_statement at h
  refine hr_aload_n hC dX7_statement_0 rfl ?_
  refine hr_gO 5 hC F7_0 rfl dX7_statement_1 q565 ?_
  obtain ⟨r1, e2, h⟩ := hx_bind h
  refine hs_callV0 hC 5 [] _ dX7_statement_4 q1258 q1259 q1260 q319 q1261 np_X5 rfl OB_5 pd_X5_start (Nat.le_of_ble_eq_true rfl) hd1 (okX5_start l E A (d - 1)  (by omega)  e2 am) rfl ?_
  refine hr_istore_n hC dX7_statement_7 (by decide) ?_
  refine hr_aload_n hC dX7_statement_8 rfl ?_
  refine hr_bipush (v := 123) hC dX7_statement_9 rfl ?_
  obtain ⟨r5, e6, h⟩ := hx_bind h
  refine hs_callV0 hC 7 [_] _ dX7_statement_11 q1242 q1244 qs12 q321 q1245 np_X7 rfl OB_7 pd_X7_is (Nat.le_of_ble_eq_true rfl) hd1 (okX7_is l E A (d - 1)  (by omega)  e6 am) rfl ?_
  refine hr_if_eq (x := _) hC 22 dX7_statement_14 (by decide) (fun c10 => ?_) (fun c10 => ?_)
  · rw [if_pos c10] at h
    refine hr_aload_n hC dX7_statement_22 rfl ?_
    obtain ⟨r11, e12, h⟩ := hx_bind h
    refine hs_callV0 hC 7 [] _ dX7_statement_23 q1474 q1476 qs41 q321 q1477 np_X7 rfl OB_7 pd_X7_isDeclaration (Nat.le_of_ble_eq_true rfl) hd1 (okX7_isDeclaration l E A (d - 1)  (by omega)  e12 am) rfl ?_
    refine hr_if_eq (x := _) hC 34 dX7_statement_26 (by decide) (fun c16 => ?_) (fun c16 => ?_)
    · rw [if_pos c16] at h
      refine hr_aload_n hC dX7_statement_34 rfl ?_
      refine hr_bipush (v := 59) hC dX7_statement_35 rfl ?_
      obtain ⟨r17, e18, h⟩ := hx_bind h
      refine hs_callV hC 7 [_] _ dX7_statement_37 q1348 q1350 qs19 q321 q1351 np_X7 rfl OB_7 pd_X7_takes (Nat.le_of_ble_eq_true rfl) hd1 (okX7_takes l E A (d - 1) n (by omega)  e18 am) (hc_rb rfl) rfl (fun am19 ha20 => ?_)
      refine hr_if_eq (x := _) hC 56 dX7_statement_40 (by decide) (fun c22 => ?_) (fun c22 => ?_)
      · rw [if_pos c22] at h
        refine hr_aload_n hC dX7_statement_56 rfl ?_
        refine hr_gO 5 hC F7_0 rfl dX7_statement_57 q565 ?_
        obtain ⟨r23, e24, h⟩ := hx_bind h
        refine hs_callV0 hC 5 [] _ dX7_statement_60 q1246 q1247 q1248 q319 q1249 np_X5 rfl OB_5 pd_X5_token (Nat.le_of_ble_eq_true rfl) hd1 (okX5_token l E A (d - 1)  (by omega)  e24 am19) rfl ?_
        refine hr_sipush (v := 200) hC dX7_statement_63 rfl ?_
        refine hr_isub hC dX7_statement_66 ?_
        by_cases c121 : (r23 - 200) = 4
        · rw [if_pos c121] at h
          refine hr_tableIn hC 124 dX7_statement_67 (by rw [c121] <;> decide) (by rw [c121] <;> decide) (by rw [c121] <;> rfl) (by decide) ?_
          refine hr_aload_n hC dX7_statement_124 rfl ?_
          refine hr_iload_n hC dX7_statement_125 rfl ?_
          obtain ⟨r45, e46, h⟩ := hx_bind h
          by_cases z49 : r45.1 = 0
          · rw [ht_0 z49] at h
            refine hs_callV hC 7 [_] _ dX7_statement_126 q1503 q1505 qs46 q321 q1506 np_X7 rfl OB_7 pd_X7_choosing (Nat.le_of_ble_eq_true rfl) hd1 (hc_M0 (r := r45) (IH _ _ _ _ e46 am19) z49) (hc_rb rfl) rfl (fun am47 ha48 => ?_)
            obtain rfl := Option.some.inj h
            exact hr_iret hC dX7_statement_129
          · rw [ht_1 z49] at h
            obtain rfl := Option.some.inj h
            exact hs_callVx (HX z49) hem 7 [_] _ dX7_statement_126 q1503 q1505 qs46 q321 q1506 np_X7 rfl OB_7 pd_X7_choosing (Nat.le_of_ble_eq_true rfl) hd1 (hc_M1 (r := r45) (IH _ _ _ _ e46 am19) z49) (hc_rb rfl) rfl
        rw [if_neg c121] at h
        by_cases c122 : (r23 - 200) = 6
        · rw [if_pos c122] at h
          refine hr_tableIn hC 130 dX7_statement_67 (by rw [c122] <;> decide) (by rw [c122] <;> decide) (by rw [c122] <;> rfl) (by decide) ?_
          refine hr_aload_n hC dX7_statement_130 rfl ?_
          refine hr_iload_n hC dX7_statement_131 rfl ?_
          obtain ⟨r50, e51, h⟩ := hx_bind h
          by_cases z54 : r50.1 = 0
          · rw [ht_0 z54] at h
            refine hs_callV hC 7 [_] _ dX7_statement_132 q1511 q1513 qs48 q321 q1514 np_X7 rfl OB_7 pd_X7_looping (Nat.le_of_ble_eq_true rfl) hd1 (hc_M0 (r := r50) (IH _ _ _ _ e51 am19) z54) (hc_rb rfl) rfl (fun am52 ha53 => ?_)
            obtain rfl := Option.some.inj h
            exact hr_iret hC dX7_statement_135
          · rw [ht_1 z54] at h
            obtain rfl := Option.some.inj h
            exact hs_callVx (HX z54) hem 7 [_] _ dX7_statement_132 q1511 q1513 qs48 q321 q1514 np_X7 rfl OB_7 pd_X7_looping (Nat.le_of_ble_eq_true rfl) hd1 (hc_M1 (r := r50) (IH _ _ _ _ e51 am19) z54) (hc_rb rfl) rfl
        rw [if_neg c122] at h
        by_cases c123 : (r23 - 200) = 7
        · rw [if_pos c123] at h
          refine hr_tableIn hC 136 dX7_statement_67 (by rw [c123] <;> decide) (by rw [c123] <;> decide) (by rw [c123] <;> rfl) (by decide) ?_
          refine hr_aload_n hC dX7_statement_136 rfl ?_
          refine hr_iload_n hC dX7_statement_137 rfl ?_
          obtain ⟨r55, e56, h⟩ := hx_bind h
          by_cases z59 : r55.1 = 0
          · rw [ht_0 z59] at h
            refine hs_callV hC 7 [_] _ dX7_statement_138 q1515 q1517 qs49 q321 q1518 np_X7 rfl OB_7 pd_X7_doing (Nat.le_of_ble_eq_true rfl) hd1 (hc_M0 (r := r55) (IH _ _ _ _ e56 am19) z59) (hc_rb rfl) rfl (fun am57 ha58 => ?_)
            obtain rfl := Option.some.inj h
            exact hr_iret hC dX7_statement_141
          · rw [ht_1 z59] at h
            obtain rfl := Option.some.inj h
            exact hs_callVx (HX z59) hem 7 [_] _ dX7_statement_138 q1515 q1517 qs49 q321 q1518 np_X7 rfl OB_7 pd_X7_doing (Nat.le_of_ble_eq_true rfl) hd1 (hc_M1 (r := r55) (IH _ _ _ _ e56 am19) z59) (hc_rb rfl) rfl
        rw [if_neg c123] at h
        by_cases c124 : (r23 - 200) = 8
        · rw [if_pos c124] at h
          refine hr_tableIn hC 142 dX7_statement_67 (by rw [c124] <;> decide) (by rw [c124] <;> decide) (by rw [c124] <;> rfl) (by decide) ?_
          refine hr_aload_n hC dX7_statement_142 rfl ?_
          refine hr_iload_n hC dX7_statement_143 rfl ?_
          obtain ⟨r60, e61, h⟩ := hx_bind h
          by_cases z64 : r60.1 = 0
          · rw [ht_0 z64] at h
            refine hs_callV hC 7 [_] _ dX7_statement_144 q1519 q1521 qs50 q321 q1522 np_X7 rfl OB_7 pd_X7_counting (Nat.le_of_ble_eq_true rfl) hd1 (hc_M0 (r := r60) (IH _ _ _ _ e61 am19) z64) (hc_rb rfl) rfl (fun am62 ha63 => ?_)
            obtain rfl := Option.some.inj h
            exact hr_iret hC dX7_statement_147
          · rw [ht_1 z64] at h
            obtain rfl := Option.some.inj h
            exact hs_callVx (HX z64) hem 7 [_] _ dX7_statement_144 q1519 q1521 qs50 q321 q1522 np_X7 rfl OB_7 pd_X7_counting (Nat.le_of_ble_eq_true rfl) hd1 (hc_M1 (r := r60) (IH _ _ _ _ e61 am19) z64) (hc_rb rfl) rfl
        rw [if_neg c124] at h
        by_cases c125 : (r23 - 200) = 9
        · rw [if_pos c125] at h
          refine hr_tableIn hC 148 dX7_statement_67 (by rw [c125] <;> decide) (by rw [c125] <;> decide) (by rw [c125] <;> rfl) (by decide) ?_
          refine hr_aload_n hC dX7_statement_148 rfl ?_
          refine hr_iload_n hC dX7_statement_149 rfl ?_
          obtain ⟨r65, e66, h⟩ := hx_bind h
          by_cases z69 : r65.1 = 0
          · rw [ht_0 z69] at h
            refine hs_callV hC 7 [_] _ dX7_statement_150 q1527 q1529 qs52 q321 q1530 np_X7 rfl OB_7 pd_X7_switching (Nat.le_of_ble_eq_true rfl) hd1 (hc_M0 (r := r65) (IH _ _ _ _ e66 am19) z69) (hc_rb rfl) rfl (fun am67 ha68 => ?_)
            obtain rfl := Option.some.inj h
            exact hr_iret hC dX7_statement_153
          · rw [ht_1 z69] at h
            obtain rfl := Option.some.inj h
            exact hs_callVx (HX z69) hem 7 [_] _ dX7_statement_150 q1527 q1529 qs52 q321 q1530 np_X7 rfl OB_7 pd_X7_switching (Nat.le_of_ble_eq_true rfl) hd1 (hc_M1 (r := r65) (IH _ _ _ _ e66 am19) z69) (hc_rb rfl) rfl
        rw [if_neg c125] at h
        by_cases c126 : (r23 - 200) = 12
        · rw [if_pos c126] at h
          refine hr_tableIn hC 154 dX7_statement_67 (by rw [c126] <;> decide) (by rw [c126] <;> decide) (by rw [c126] <;> rfl) (by decide) ?_
          refine hr_aload_n hC dX7_statement_154 rfl ?_
          refine hr_gO 6 hC F7_1 rfl dX7_statement_155 q566 ?_
          refine hr_aload_n hC dX7_statement_158 rfl ?_
          refine hr_bipush (v := 12) hC dX7_statement_159 rfl ?_
          obtain ⟨r70, e71, h⟩ := hx_bind h
          refine hs_callV0 hC 7 [_] _ dX7_statement_161 q1250 q1252 qs13 q321 q1253 np_X7 rfl OB_7 pd_X7_isWord (Nat.le_of_ble_eq_true rfl) hd1 (okX7_isWord l E A (d - 1)  (by omega)  e71 am19) rfl ?_
          obtain ⟨v76, hv76, h⟩ := hl_ok h
          have J90 : ∀ w91 : Int32, (if r70 = 0 then 21 else 20) = w91 → hc_At hc_V0 E 4 X 174 [(0, .ref (E.2.1 7)), (1, .int r1)] [.int w91, .ref (E.2.1 6)] r17.2 am19 [] := by
            intro w91 hw91
            obtain rfl := hv76.trans hw91
            refine hr_iconst (v := 0) hC dX7_statement_174 rfl ?_
            refine hr_iconst (v := 0) hC dX7_statement_175 rfl ?_
            refine hr_iload_n hC dX7_statement_176 rfl ?_
            obtain ⟨r77, e78, h⟩ := hx_bind h
            refine hs_callV hC 6 [_, _, _, _] _ dX7_statement_177 q1230 q1231 q1232 q320 q1233 np_X6 rfl OB_6 pd_X6_make (Nat.le_of_ble_eq_true rfl) hd1 (okX6_make l E A (d - 1)  (by omega)  e78 am19) (hc_rb rfl) rfl (fun am79 ha80 => ?_)
            refine hr_istore_n hC dX7_statement_180 (by decide) ?_
            refine hr_aload_n hC dX7_statement_181 rfl ?_
            refine hr_gO 5 hC F7_0 rfl dX7_statement_182 q565 ?_
            obtain ⟨r81, e82, h⟩ := hx_bind h
            refine hs_callV hC 5 [] _ dX7_statement_185 q1262 q1076 q1077 q319 q1078 np_X5 rfl OB_5 pd_X5_next (Nat.le_of_ble_eq_true rfl) hd1 (okX5_next l E A (d - 1) n (by omega)  e82 am79) (hc_rb rfl) rfl (fun am83 ha84 => ?_)
            refine hr_aload_n hC dX7_statement_188 rfl ?_
            refine hr_bipush (v := 59) hC dX7_statement_189 rfl ?_
            obtain ⟨r85, e86, h⟩ := hx_bind h
            by_cases z89 : r85.1 = 0
            · rw [ht_0 z89] at h
              refine hs_callV hC 7 [_] _ dX7_statement_191 q1434 q1436 qs32 q321 q1437 np_X7 rfl OB_7 pd_X7_take (Nat.le_of_ble_eq_true rfl) hd1 (hc_M0 (r := r85) (okX7_take l E A (d - 1) n (by omega)  e86 am83) z89) (hc_rb rfl) rfl (fun am87 ha88 => ?_)
              refine hr_iload_n hC dX7_statement_194 rfl ?_
              obtain rfl := Option.some.inj h
              exact hr_iret hC dX7_statement_195
            · rw [ht_1 z89] at h
              obtain rfl := Option.some.inj h
              exact hs_callVx (HX z89) hem 7 [_] _ dX7_statement_191 q1434 q1436 qs32 q321 q1437 np_X7 rfl OB_7 pd_X7_take (Nat.le_of_ble_eq_true rfl) hd1 (hc_M1 (r := r85) (okX7_take l E A (d - 1) n (by omega)  e86 am83) z89) (hc_rb rfl) rfl
          refine hr_if_eq (x := _) hC 172 dX7_statement_164 (by decide) (fun c92 => ?_) (fun c92 => ?_)
          · refine hr_bipush (v := 21) hC dX7_statement_172 rfl ?_
            exact hr_sub _ rfl (J90 _ (by first | (rw [if_pos c92]; done) | (simp only [if_pos c92]; done) | rfl))
          · refine hr_bipush (v := 20) hC dX7_statement_167 rfl ?_
            refine hr_goto hC 174 dX7_statement_169 (by decide) ?_
            exact hr_sub _ rfl (J90 _ (by first | (rw [if_neg c92]; done) | (simp only [if_neg c92]; done) | rfl))
        rw [if_neg c126] at h
        by_cases c127 : (r23 - 200) = 13
        · rw [if_pos c127] at h
          refine hr_tableIn hC 154 dX7_statement_67 (by rw [c127] <;> decide) (by rw [c127] <;> decide) (by rw [c127] <;> rfl) (by decide) ?_
          refine hr_aload_n hC dX7_statement_154 rfl ?_
          refine hr_gO 6 hC F7_1 rfl dX7_statement_155 q566 ?_
          refine hr_aload_n hC dX7_statement_158 rfl ?_
          refine hr_bipush (v := 12) hC dX7_statement_159 rfl ?_
          obtain ⟨r93, e94, h⟩ := hx_bind h
          refine hs_callV0 hC 7 [_] _ dX7_statement_161 q1250 q1252 qs13 q321 q1253 np_X7 rfl OB_7 pd_X7_isWord (Nat.le_of_ble_eq_true rfl) hd1 (okX7_isWord l E A (d - 1)  (by omega)  e94 am19) rfl ?_
          obtain ⟨v99, hv99, h⟩ := hl_ok h
          have J113 : ∀ w114 : Int32, (if r93 = 0 then 21 else 20) = w114 → hc_At hc_V0 E 4 X 174 [(0, .ref (E.2.1 7)), (1, .int r1)] [.int w114, .ref (E.2.1 6)] r17.2 am19 [] := by
            intro w114 hw114
            obtain rfl := hv99.trans hw114
            refine hr_iconst (v := 0) hC dX7_statement_174 rfl ?_
            refine hr_iconst (v := 0) hC dX7_statement_175 rfl ?_
            refine hr_iload_n hC dX7_statement_176 rfl ?_
            obtain ⟨r100, e101, h⟩ := hx_bind h
            refine hs_callV hC 6 [_, _, _, _] _ dX7_statement_177 q1230 q1231 q1232 q320 q1233 np_X6 rfl OB_6 pd_X6_make (Nat.le_of_ble_eq_true rfl) hd1 (okX6_make l E A (d - 1)  (by omega)  e101 am19) (hc_rb rfl) rfl (fun am102 ha103 => ?_)
            refine hr_istore_n hC dX7_statement_180 (by decide) ?_
            refine hr_aload_n hC dX7_statement_181 rfl ?_
            refine hr_gO 5 hC F7_0 rfl dX7_statement_182 q565 ?_
            obtain ⟨r104, e105, h⟩ := hx_bind h
            refine hs_callV hC 5 [] _ dX7_statement_185 q1262 q1076 q1077 q319 q1078 np_X5 rfl OB_5 pd_X5_next (Nat.le_of_ble_eq_true rfl) hd1 (okX5_next l E A (d - 1) n (by omega)  e105 am102) (hc_rb rfl) rfl (fun am106 ha107 => ?_)
            refine hr_aload_n hC dX7_statement_188 rfl ?_
            refine hr_bipush (v := 59) hC dX7_statement_189 rfl ?_
            obtain ⟨r108, e109, h⟩ := hx_bind h
            by_cases z112 : r108.1 = 0
            · rw [ht_0 z112] at h
              refine hs_callV hC 7 [_] _ dX7_statement_191 q1434 q1436 qs32 q321 q1437 np_X7 rfl OB_7 pd_X7_take (Nat.le_of_ble_eq_true rfl) hd1 (hc_M0 (r := r108) (okX7_take l E A (d - 1) n (by omega)  e109 am106) z112) (hc_rb rfl) rfl (fun am110 ha111 => ?_)
              refine hr_iload_n hC dX7_statement_194 rfl ?_
              obtain rfl := Option.some.inj h
              exact hr_iret hC dX7_statement_195
            · rw [ht_1 z112] at h
              obtain rfl := Option.some.inj h
              exact hs_callVx (HX z112) hem 7 [_] _ dX7_statement_191 q1434 q1436 qs32 q321 q1437 np_X7 rfl OB_7 pd_X7_take (Nat.le_of_ble_eq_true rfl) hd1 (hc_M1 (r := r108) (okX7_take l E A (d - 1) n (by omega)  e109 am106) z112) (hc_rb rfl) rfl
          refine hr_if_eq (x := _) hC 172 dX7_statement_164 (by decide) (fun c115 => ?_) (fun c115 => ?_)
          · refine hr_bipush (v := 21) hC dX7_statement_172 rfl ?_
            exact hr_sub _ rfl (J113 _ (by first | (rw [if_pos c115]; done) | (simp only [if_pos c115]; done) | rfl))
          · refine hr_bipush (v := 20) hC dX7_statement_167 rfl ?_
            refine hr_goto hC 174 dX7_statement_169 (by decide) ?_
            exact hr_sub _ rfl (J113 _ (by first | (rw [if_neg c115]; done) | (simp only [if_neg c115]; done) | rfl))
        rw [if_neg c127] at h
        by_cases c128 : (r23 - 200) = 14
        · rw [if_pos c128] at h
          refine hr_tableIn hC 196 dX7_statement_67 (by rw [c128] <;> decide) (by rw [c128] <;> decide) (by rw [c128] <;> rfl) (by decide) ?_
          refine hr_aload_n hC dX7_statement_196 rfl ?_
          refine hr_iload_n hC dX7_statement_197 rfl ?_
          obtain ⟨r116, e117, h⟩ := hx_bind h
          by_cases z120 : r116.1 = 0
          · rw [ht_0 z120] at h
            refine hs_callV hC 7 [_] _ dX7_statement_198 q1535 q1537 qs54 q321 q1538 np_X7 rfl OB_7 pd_X7_returning (Nat.le_of_ble_eq_true rfl) hd1 (hc_M0 (r := r116) (okX7_returning l E A (d - 1) n k0 (by omega)  e117 am19) z120) (hc_rb rfl) rfl (fun am118 ha119 => ?_)
            obtain rfl := Option.some.inj h
            exact hr_iret hC dX7_statement_201
          · rw [ht_1 z120] at h
            obtain rfl := Option.some.inj h
            exact hs_callVx (HX z120) hem 7 [_] _ dX7_statement_198 q1535 q1537 qs54 q321 q1538 np_X7 rfl OB_7 pd_X7_returning (Nat.le_of_ble_eq_true rfl) hd1 (hc_M1 (r := r116) (okX7_returning l E A (d - 1) n k0 (by omega)  e117 am19) z120) (hc_rb rfl) rfl
        rw [if_neg c128] at h
        refine hr_tableD hC 202 dX7_statement_67 (ks := [4, 6, 7, 8, 9, 12, 13, 14]) (hc_l1 (hc_ne c121 rfl) (hc_l1 (hc_ne c122 rfl) (hc_l1 (hc_ne c123 rfl) (hc_l1 (hc_ne c124 rfl) (hc_l1 (hc_ne c125 rfl) (hc_l1 (hc_ne c126 rfl) (hc_l1 (hc_ne c127 rfl) (hc_l1 (hc_ne c128 rfl) hc_l0)))))))) (by decide) (by decide) (by decide) ?_
        refine hr_aload_n hC dX7_statement_202 rfl ?_
        refine hr_gO 6 hC F7_1 rfl dX7_statement_203 q566 ?_
        refine hr_bipush (v := 12) hC dX7_statement_206 rfl ?_
        refine hr_iconst (v := 0) hC dX7_statement_208 rfl ?_
        refine hr_aload_n hC dX7_statement_209 rfl ?_
        obtain ⟨r27, e28, h⟩ := hx_bind h
        by_cases z31 : r27.1 = 0
        · rw [ht_0 z31] at h
          refine hs_callV hC 7 [] _ dX7_statement_210 q1396 q1398 qs25 q321 q1399 np_X7 rfl OB_7 pd_X7_expression (Nat.le_of_ble_eq_true rfl) hd1 (hc_M0 (r := r27) (okX7_expression l E A (d - 1) n k0 (by omega)  e28 am19) z31) (hc_rb rfl) rfl (fun am29 ha30 => ?_)
          obtain ⟨r32, e33, h⟩ := hx_bind h
          refine hs_callV hC 6 [_, _, _] _ dX7_statement_213 q1372 q1373 q1374 q320 q1375 np_X6 rfl OB_6 pd_X6_over (Nat.le_of_ble_eq_true rfl) hd1 (okX6_over l E A (d - 1)  (by omega)  e33 am29) (hc_rb rfl) rfl (fun am34 ha35 => ?_)
          refine hr_istore_n hC dX7_statement_216 (by decide) ?_
          refine hr_aload_n hC dX7_statement_217 rfl ?_
          refine hr_gO 6 hC F7_1 rfl dX7_statement_218 q566 ?_
          refine hr_iload_n hC dX7_statement_221 rfl ?_
          refine hr_iload_n hC dX7_statement_222 rfl ?_
          obtain ⟨r36, e37, h⟩ := hx_bind h
          refine hs_callV0 hC 6 [_, _] _ dX7_statement_223 q1384 q1385 q1386 q320 q1387 np_X6 rfl OB_6 pd_X6_setPlace (Nat.le_of_ble_eq_true rfl) hd1 (okX6_setPlace l E A (d - 1)  (by omega)  e37 am34) rfl ?_
          refine hr_aload_n hC dX7_statement_226 rfl ?_
          refine hr_bipush (v := 59) hC dX7_statement_227 rfl ?_
          obtain ⟨r40, e41, h⟩ := hx_bind h
          by_cases z44 : r40.1 = 0
          · rw [ht_0 z44] at h
            refine hs_callV hC 7 [_] _ dX7_statement_229 q1434 q1436 qs32 q321 q1437 np_X7 rfl OB_7 pd_X7_take (Nat.le_of_ble_eq_true rfl) hd1 (hc_M0 (r := r40) (okX7_take l E A (d - 1) n (by omega)  e41 am34) z44) (hc_rb rfl) rfl (fun am42 ha43 => ?_)
            refine hr_iload_n hC dX7_statement_232 rfl ?_
            obtain rfl := Option.some.inj h
            exact hr_iret hC dX7_statement_233
          · rw [ht_1 z44] at h
            obtain rfl := Option.some.inj h
            exact hs_callVx (HX z44) hem 7 [_] _ dX7_statement_229 q1434 q1436 qs32 q321 q1437 np_X7 rfl OB_7 pd_X7_take (Nat.le_of_ble_eq_true rfl) hd1 (hc_M1 (r := r40) (okX7_take l E A (d - 1) n (by omega)  e41 am34) z44) (hc_rb rfl) rfl
        · rw [ht_1 z31] at h
          obtain rfl := Option.some.inj h
          exact hs_callVx (HX z31) hem 7 [] _ dX7_statement_210 q1396 q1398 qs25 q321 q1399 np_X7 rfl OB_7 pd_X7_expression (Nat.le_of_ble_eq_true rfl) hd1 (hc_M1 (r := r27) (okX7_expression l E A (d - 1) n k0 (by omega)  e28 am19) z31) (hc_rb rfl) rfl
      · rw [if_neg c22] at h
        refine hr_aload_n hC dX7_statement_43 rfl ?_
        refine hr_gO 6 hC F7_1 rfl dX7_statement_44 q566 ?_
        refine hr_bipush (v := 11) hC dX7_statement_47 rfl ?_
        refine hr_iconst (v := 0) hC dX7_statement_49 rfl ?_
        refine hr_iconst (v := 0) hC dX7_statement_50 rfl ?_
        refine hr_iload_n hC dX7_statement_51 rfl ?_
        obtain ⟨r129, e130, h⟩ := hx_bind h
        refine hs_callV hC 6 [_, _, _, _] _ dX7_statement_52 q1230 q1231 q1232 q320 q1233 np_X6 rfl OB_6 pd_X6_make (Nat.le_of_ble_eq_true rfl) hd1 (okX6_make l E A (d - 1)  (by omega)  e130 am19) (hc_rb rfl) rfl (fun am131 ha132 => ?_)
        obtain rfl := Option.some.inj h
        exact hr_iret hC dX7_statement_55
    · rw [if_neg c16] at h
      refine hr_aload_n hC dX7_statement_29 rfl ?_
      obtain ⟨r133, e134, h⟩ := hx_bind h
      by_cases z137 : r133.1 = 0
      · rw [ht_0 z137] at h
        refine hs_callV hC 7 [] _ dX7_statement_30 q1478 q1480 qs42 q321 q1481 np_X7 rfl OB_7 pd_X7_variables (Nat.le_of_ble_eq_true rfl) hd1 (hc_M0 (r := r133) (okX7_variables l E A (d - 1) n k0 (by omega)  e134 am) z137) (hc_rb rfl) rfl (fun am135 ha136 => ?_)
        obtain rfl := Option.some.inj h
        exact hr_iret hC dX7_statement_33
      · rw [ht_1 z137] at h
        obtain rfl := Option.some.inj h
        exact hs_callVx (HX z137) hem 7 [] _ dX7_statement_30 q1478 q1480 qs42 q321 q1481 np_X7 rfl OB_7 pd_X7_variables (Nat.le_of_ble_eq_true rfl) hd1 (hc_M1 (r := r133) (okX7_variables l E A (d - 1) n k0 (by omega)  e134 am) z137) (hc_rb rfl) rfl
  · rw [if_neg c10] at h
    refine hr_aload_n hC dX7_statement_17 rfl ?_
    obtain ⟨r138, e139, h⟩ := hx_bind h
    by_cases z142 : r138.1 = 0
    · rw [ht_0 z142] at h
      refine hs_callV hC 7 [] _ dX7_statement_18 q1466 q1468 qs39 q321 q1469 np_X7 rfl OB_7 pd_X7_block (Nat.le_of_ble_eq_true rfl) hd1 (hc_M0 (r := r138) (IH _ _ _ _ e139 am) z142) (hc_rb rfl) rfl (fun am140 ha141 => ?_)
      obtain rfl := Option.some.inj h
      exact hr_iret hC dX7_statement_21
    · rw [ht_1 z142] at h
      obtain rfl := Option.some.inj h
      exact hs_callVx (HX z142) hem 7 [] _ dX7_statement_18 q1466 q1468 qs39 q321 q1469 np_X7 rfl OB_7 pd_X7_block (Nat.le_of_ble_eq_true rfl) hd1 (hc_M1 (r := r138) (IH _ _ _ _ e139 am) z142) (hc_rb rfl) rfl
/-- HomeCompiler$Reader.choosing(I)I -/
def bd_X7_choosing (n : Nat) (k0 : Nat) (rec : Nat → List Int32 → hc_St → Option (Nat × Int32 × hc_St)) (x1 : Int32) (σ : hc_St) : Option (Nat × Int32 × hc_St) := Option.bind (fm_X6_make 13 0 0 x1 σ) fun r1 => Option.bind (fm_X7_opens n r1.2) fun r5 => ht r5 <| Option.bind (fm_X7_condition n k0 r5.2.2) fun r10 => ht r10 <| Option.bind (fm_X6_hang r1.1 r10.2.1 r10.2.2) fun r15 => Option.bind (rec 1 [] r15) fun r19 => ht r19 <| Option.bind (fm_X6_hang r1.1 r19.2.1 r19.2.2) fun r24 => Option.bind (fm_X7_takesWord n 5 r24) fun r28 => Option.bind (α := Nat × hc_St × Int32) (if r28.1 = 0 then (some (0, r28.2, (0 : Int32))) else (Option.bind (rec 1 [] r28.2) fun r38 => hv r38 (0) <| Option.bind (fm_X6_hang r1.1 r38.2.1 r38.2.2) fun r43 => some (0, r43, (0 : Int32)))) fun r34 => hu r34 <| hl (pI r34.2.1 7 2 ((((gI r34.2.1 7 2)) - 1))) fun σ48 => some (0, r1.1, σ48)
set_option maxRecDepth 20000 in
set_option maxHeartbeats 4000000 in
theorem okbX7_choosing (l : Launch) (E : hc_E) (A : Nat → Prop) (d : Nat) {kk : Nat} (n : Nat) (k0 : Nat) (rec : Nat → List Int32 → hc_St → Option (Nat × Int32 × hc_St)) (hD : kk + 1 * k0 + 21 ≤ d) (IH : ∀ (w : Nat) (a : List Int32) (σ : hc_St) (r : (Nat × Int32 × hc_St)), rec w a σ = some r → ∀ am, okg_X7_block l E A (d - 1) am w a σ r) {x1 : Int32} {σ : hc_St} {r : (Nat × Int32 × hc_St)} (h : bd_X7_choosing n k0 rec x1 σ = some r) (am : Nat → Nat → Nat) : hc_M l hc_V0 yX7_choosing (ws_ yX7_choosing cX7_choosing 3 (some .int)) d E A [.ref (E.2.1 7), .int x1] am [2, 3, 4, 6, 12, 22] σ (hc_ot (fun v => some (.int v)) r) r.2.2 := by
  have hd1 : 1 ≤ d := by omega
  have hd8 : 9 ≤ d := by omega
  have hd12 : 12 ≤ d := by omega
  refine hc_enter2 (own := RX7) [(0, .ref (E.2.1 7)), (1, .int x1)] pl_X7 rfl hc_V0_st hc_G0_nd rfl (Nat.le_of_ble_eq_true rfl) (fun X hC hem => ?_)
  have HX := fun z => hc_CX hC z
  unfold bd_X7_choosing at h
  refine hr_aload_n hC dX7_choosing_0 rfl ?_
  refine hr_gO 6 hC F7_1 rfl dX7_choosing_1 q566 ?_
  refine hr_bipush (v := 13) hC dX7_choosing_4 rfl ?_
  refine hr_iconst (v := 0) hC dX7_choosing_6 rfl ?_
  refine hr_iconst (v := 0) hC dX7_choosing_7 rfl ?_
  refine hr_iload_n hC dX7_choosing_8 rfl ?_
  obtain ⟨r1, e2, h⟩ := hx_bind h
  refine hs_callV hC 6 [_, _, _, _] _ dX7_choosing_9 q1230 q1231 q1232 q320 q1233 np_X6 rfl OB_6 pd_X6_make (Nat.le_of_ble_eq_true rfl) hd1 (okX6_make l E A (d - 1)  (by omega)  e2 am) (hc_rb rfl) rfl (fun am3 ha4 => ?_)
  refine hr_istore_n hC dX7_choosing_12 (by decide) ?_
  refine hr_aload_n hC dX7_choosing_13 rfl ?_
  obtain ⟨r5, e6, h⟩ := hx_bind h
  by_cases z9 : r5.1 = 0
  · rw [ht_0 z9] at h
    refine hs_callV hC 7 [] _ dX7_choosing_14 q1336 q1338 qs17 q321 q1339 np_X7 rfl OB_7 pd_X7_opens (Nat.le_of_ble_eq_true rfl) hd1 (hc_M0 (r := r5) (okX7_opens l E A (d - 1) n (by omega)  e6 am3) z9) (hc_rb rfl) rfl (fun am7 ha8 => ?_)
    refine hr_aload_n hC dX7_choosing_17 rfl ?_
    refine hr_gO 6 hC F7_1 rfl dX7_choosing_18 q566 ?_
    refine hr_iload_n hC dX7_choosing_21 rfl ?_
    refine hr_aload_n hC dX7_choosing_22 rfl ?_
    obtain ⟨r10, e11, h⟩ := hx_bind h
    by_cases z14 : r10.1 = 0
    · rw [ht_0 z14] at h
      refine hs_callV hC 7 [] _ dX7_choosing_23 q1507 q1509 qs47 q321 q1510 np_X7 rfl OB_7 pd_X7_condition (Nat.le_of_ble_eq_true rfl) hd1 (hc_M0 (r := r10) (okX7_condition l E A (d - 1) n k0 (by omega)  e11 am7) z14) (hc_rb rfl) rfl (fun am12 ha13 => ?_)
      obtain ⟨r15, e16, h⟩ := hx_bind h
      refine hs_callV0 hC 6 [_, _] _ dX7_choosing_26 q1412 q1378 q1379 q320 q1380 np_X6 rfl OB_6 pd_X6_hang (Nat.le_of_ble_eq_true rfl) hd1 (okX6_hang l E A (d - 1)  (by omega)  e16 am12) rfl ?_
      refine hr_aload_n hC dX7_choosing_29 rfl ?_
      refine hr_gO 6 hC F7_1 rfl dX7_choosing_30 q566 ?_
      refine hr_iload_n hC dX7_choosing_33 rfl ?_
      refine hr_aload_n hC dX7_choosing_34 rfl ?_
      obtain ⟨r19, e20, h⟩ := hx_bind h
      by_cases z23 : r19.1 = 0
      · rw [ht_0 z23] at h
        refine hs_callV hC 7 [] _ dX7_choosing_35 q1470 q1472 qs40 q321 q1473 np_X7 rfl OB_7 pd_X7_statement (Nat.le_of_ble_eq_true rfl) hd1 (hc_M0 (r := r19) (IH _ _ _ _ e20 am12) z23) (hc_rb rfl) rfl (fun am21 ha22 => ?_)
        obtain ⟨r24, e25, h⟩ := hx_bind h
        refine hs_callV0 hC 6 [_, _] _ dX7_choosing_38 q1412 q1378 q1379 q320 q1380 np_X6 rfl OB_6 pd_X6_hang (Nat.le_of_ble_eq_true rfl) hd1 (okX6_hang l E A (d - 1)  (by omega)  e25 am21) rfl ?_
        refine hr_aload_n hC dX7_choosing_41 rfl ?_
        refine hr_iconst (v := 5) hC dX7_choosing_42 rfl ?_
        obtain ⟨r28, e29, h⟩ := hx_bind h
        refine hs_callV hC 7 [_] _ dX7_choosing_43 q1454 q1456 qs37 q321 q1457 np_X7 rfl OB_7 pd_X7_takesWord (Nat.le_of_ble_eq_true rfl) hd1 (okX7_takesWord l E A (d - 1) n (by omega)  e29 am21) (hc_rb rfl) rfl (fun am30 ha31 => ?_)
        obtain ⟨r34, e35, h⟩ := hx_bind h
        have J36 : r34.1 = 0 → ∀ am47, hc_At hc_V0 E 3 X 61 [(0, .ref (E.2.1 7)), (2, .int r1.1)] [] r34.2.1 am47 [] := by
          intro z37 am47
          rw [hu_0 z37] at h
          refine hr_aload_n hC dX7_choosing_61 rfl ?_
          refine hr_dup hC dX7_choosing_62 rfl ?_
          refine hr_gI hC F7_2 dX7_choosing_63 q567 ?_
          refine hr_iconst (v := 1) hC dX7_choosing_66 rfl ?_
          refine hr_isub hC dX7_choosing_67 ?_
          obtain ⟨σ48, hσ48, h⟩ := hl_ok h
          refine hr_pI hC F7_2 PX7_2 dX7_choosing_68 q567 ?_
          rw [← hσ48]
          refine hr_iload_n hC dX7_choosing_71 rfl ?_
          obtain rfl := Option.some.inj h
          exact hr_iret hC dX7_choosing_72
        have HX : r34.1 ≠ 0 → hc_C hc_V0 E cX7_choosing 3 RX7 (some .int) d (.inr r34.1) r34.2.1 (l, A, am, [2, 3, 4, 6, 12, 22]) X := by
          intro z37
          rw [hu_1 z37] at h
          obtain rfl := Option.some.inj h
          exact HX z37
        clear h
        have h := e35
        refine hr_if_eq (x := _) hC 61 dX7_choosing_46 (by decide) (fun c33 => ?_) (fun c33 => ?_)
        · rw [if_pos c33] at h
          obtain rfl := Option.some.inj h
          exact hr_sub _ rfl (J36 rfl am30)
        · rw [if_neg c33] at h
          refine hr_aload_n hC dX7_choosing_49 rfl ?_
          refine hr_gO 6 hC F7_1 rfl dX7_choosing_50 q566 ?_
          refine hr_iload_n hC dX7_choosing_53 rfl ?_
          refine hr_aload_n hC dX7_choosing_54 rfl ?_
          obtain ⟨r38, e39, h⟩ := hx_bind h
          by_cases z42 : r38.1 = 0
          · rw [hv_0 z42] at h
            refine hs_callV hC 7 [] _ dX7_choosing_55 q1470 q1472 qs40 q321 q1473 np_X7 rfl OB_7 pd_X7_statement (Nat.le_of_ble_eq_true rfl) hd1 (hc_M0 (r := r38) (IH _ _ _ _ e39 am30) z42) (hc_rb rfl) rfl (fun am40 ha41 => ?_)
            obtain ⟨r43, e44, h⟩ := hx_bind h
            refine hs_callV0 hC 6 [_, _] _ dX7_choosing_58 q1412 q1378 q1379 q320 q1380 np_X6 rfl OB_6 pd_X6_hang (Nat.le_of_ble_eq_true rfl) hd1 (okX6_hang l E A (d - 1)  (by omega)  e44 am40) rfl ?_
            obtain rfl := Option.some.inj h
            exact hr_sub _ rfl (J36 rfl am40)
          · rw [hv_1 z42] at h
            obtain rfl := Option.some.inj h
            exact hs_callVx (HX z42) hem 7 [] _ dX7_choosing_55 q1470 q1472 qs40 q321 q1473 np_X7 rfl OB_7 pd_X7_statement (Nat.le_of_ble_eq_true rfl) hd1 (hc_M1 (r := r38) (IH _ _ _ _ e39 am30) z42) (hc_rb rfl) rfl
      · rw [ht_1 z23] at h
        obtain rfl := Option.some.inj h
        exact hs_callVx (HX z23) hem 7 [] _ dX7_choosing_35 q1470 q1472 qs40 q321 q1473 np_X7 rfl OB_7 pd_X7_statement (Nat.le_of_ble_eq_true rfl) hd1 (hc_M1 (r := r19) (IH _ _ _ _ e20 am12) z23) (hc_rb rfl) rfl
    · rw [ht_1 z14] at h
      obtain rfl := Option.some.inj h
      exact hs_callVx (HX z14) hem 7 [] _ dX7_choosing_23 q1507 q1509 qs47 q321 q1510 np_X7 rfl OB_7 pd_X7_condition (Nat.le_of_ble_eq_true rfl) hd1 (hc_M1 (r := r10) (okX7_condition l E A (d - 1) n k0 (by omega)  e11 am7) z14) (hc_rb rfl) rfl
  · rw [ht_1 z9] at h
    obtain rfl := Option.some.inj h
    exact hs_callVx (HX z9) hem 7 [] _ dX7_choosing_14 q1336 q1338 qs17 q321 q1339 np_X7 rfl OB_7 pd_X7_opens (Nat.le_of_ble_eq_true rfl) hd1 (hc_M1 (r := r5) (okX7_opens l E A (d - 1) n (by omega)  e6 am3) z9) (hc_rb rfl) rfl
/-- HomeCompiler$Reader.looping(I)I -/
def bd_X7_looping (n : Nat) (k0 : Nat) (rec : Nat → List Int32 → hc_St → Option (Nat × Int32 × hc_St)) (x1 : Int32) (σ : hc_St) : Option (Nat × Int32 × hc_St) := Option.bind (fm_X6_make 14 0 0 x1 σ) fun r1 => Option.bind (fm_X7_opens n r1.2) fun r5 => ht r5 <| Option.bind (fm_X7_condition n k0 r5.2.2) fun r10 => ht r10 <| Option.bind (fm_X6_hang r1.1 r10.2.1 r10.2.2) fun r15 => Option.bind (rec 1 [] r15) fun r19 => ht r19 <| Option.bind (fm_X6_hang r1.1 r19.2.1 r19.2.2) fun r24 => hl (pI r24 7 2 ((((gI r24 7 2)) - 1))) fun σ28 => some (0, r1.1, σ28)
set_option maxRecDepth 20000 in
set_option maxHeartbeats 4000000 in
theorem okbX7_looping (l : Launch) (E : hc_E) (A : Nat → Prop) (d : Nat) {kk : Nat} (n : Nat) (k0 : Nat) (rec : Nat → List Int32 → hc_St → Option (Nat × Int32 × hc_St)) (hD : kk + 1 * k0 + 21 ≤ d) (IH : ∀ (w : Nat) (a : List Int32) (σ : hc_St) (r : (Nat × Int32 × hc_St)), rec w a σ = some r → ∀ am, okg_X7_block l E A (d - 1) am w a σ r) {x1 : Int32} {σ : hc_St} {r : (Nat × Int32 × hc_St)} (h : bd_X7_looping n k0 rec x1 σ = some r) (am : Nat → Nat → Nat) : hc_M l hc_V0 yX7_looping (ws_ yX7_looping cX7_looping 3 (some .int)) d E A [.ref (E.2.1 7), .int x1] am [2, 3, 4, 6, 12, 22] σ (hc_ot (fun v => some (.int v)) r) r.2.2 := by
  have hd1 : 1 ≤ d := by omega
  have hd8 : 9 ≤ d := by omega
  have hd12 : 12 ≤ d := by omega
  refine hc_enter2 (own := RX7) [(0, .ref (E.2.1 7)), (1, .int x1)] pl_X7 rfl hc_V0_st hc_G0_nd rfl (Nat.le_of_ble_eq_true rfl) (fun X hC hem => ?_)
  have HX := fun z => hc_CX hC z
  unfold bd_X7_looping at h
  refine hr_aload_n hC dX7_looping_0 rfl ?_
  refine hr_gO 6 hC F7_1 rfl dX7_looping_1 q566 ?_
  refine hr_bipush (v := 14) hC dX7_looping_4 rfl ?_
  refine hr_iconst (v := 0) hC dX7_looping_6 rfl ?_
  refine hr_iconst (v := 0) hC dX7_looping_7 rfl ?_
  refine hr_iload_n hC dX7_looping_8 rfl ?_
  obtain ⟨r1, e2, h⟩ := hx_bind h
  refine hs_callV hC 6 [_, _, _, _] _ dX7_looping_9 q1230 q1231 q1232 q320 q1233 np_X6 rfl OB_6 pd_X6_make (Nat.le_of_ble_eq_true rfl) hd1 (okX6_make l E A (d - 1)  (by omega)  e2 am) (hc_rb rfl) rfl (fun am3 ha4 => ?_)
  refine hr_istore_n hC dX7_looping_12 (by decide) ?_
  refine hr_aload_n hC dX7_looping_13 rfl ?_
  obtain ⟨r5, e6, h⟩ := hx_bind h
  by_cases z9 : r5.1 = 0
  · rw [ht_0 z9] at h
    refine hs_callV hC 7 [] _ dX7_looping_14 q1336 q1338 qs17 q321 q1339 np_X7 rfl OB_7 pd_X7_opens (Nat.le_of_ble_eq_true rfl) hd1 (hc_M0 (r := r5) (okX7_opens l E A (d - 1) n (by omega)  e6 am3) z9) (hc_rb rfl) rfl (fun am7 ha8 => ?_)
    refine hr_aload_n hC dX7_looping_17 rfl ?_
    refine hr_gO 6 hC F7_1 rfl dX7_looping_18 q566 ?_
    refine hr_iload_n hC dX7_looping_21 rfl ?_
    refine hr_aload_n hC dX7_looping_22 rfl ?_
    obtain ⟨r10, e11, h⟩ := hx_bind h
    by_cases z14 : r10.1 = 0
    · rw [ht_0 z14] at h
      refine hs_callV hC 7 [] _ dX7_looping_23 q1507 q1509 qs47 q321 q1510 np_X7 rfl OB_7 pd_X7_condition (Nat.le_of_ble_eq_true rfl) hd1 (hc_M0 (r := r10) (okX7_condition l E A (d - 1) n k0 (by omega)  e11 am7) z14) (hc_rb rfl) rfl (fun am12 ha13 => ?_)
      obtain ⟨r15, e16, h⟩ := hx_bind h
      refine hs_callV0 hC 6 [_, _] _ dX7_looping_26 q1412 q1378 q1379 q320 q1380 np_X6 rfl OB_6 pd_X6_hang (Nat.le_of_ble_eq_true rfl) hd1 (okX6_hang l E A (d - 1)  (by omega)  e16 am12) rfl ?_
      refine hr_aload_n hC dX7_looping_29 rfl ?_
      refine hr_gO 6 hC F7_1 rfl dX7_looping_30 q566 ?_
      refine hr_iload_n hC dX7_looping_33 rfl ?_
      refine hr_aload_n hC dX7_looping_34 rfl ?_
      obtain ⟨r19, e20, h⟩ := hx_bind h
      by_cases z23 : r19.1 = 0
      · rw [ht_0 z23] at h
        refine hs_callV hC 7 [] _ dX7_looping_35 q1470 q1472 qs40 q321 q1473 np_X7 rfl OB_7 pd_X7_statement (Nat.le_of_ble_eq_true rfl) hd1 (hc_M0 (r := r19) (IH _ _ _ _ e20 am12) z23) (hc_rb rfl) rfl (fun am21 ha22 => ?_)
        obtain ⟨r24, e25, h⟩ := hx_bind h
        refine hs_callV0 hC 6 [_, _] _ dX7_looping_38 q1412 q1378 q1379 q320 q1380 np_X6 rfl OB_6 pd_X6_hang (Nat.le_of_ble_eq_true rfl) hd1 (okX6_hang l E A (d - 1)  (by omega)  e25 am21) rfl ?_
        refine hr_aload_n hC dX7_looping_41 rfl ?_
        refine hr_dup hC dX7_looping_42 rfl ?_
        refine hr_gI hC F7_2 dX7_looping_43 q567 ?_
        refine hr_iconst (v := 1) hC dX7_looping_46 rfl ?_
        refine hr_isub hC dX7_looping_47 ?_
        obtain ⟨σ28, hσ28, h⟩ := hl_ok h
        refine hr_pI hC F7_2 PX7_2 dX7_looping_48 q567 ?_
        rw [← hσ28]
        refine hr_iload_n hC dX7_looping_51 rfl ?_
        obtain rfl := Option.some.inj h
        exact hr_iret hC dX7_looping_52
      · rw [ht_1 z23] at h
        obtain rfl := Option.some.inj h
        exact hs_callVx (HX z23) hem 7 [] _ dX7_looping_35 q1470 q1472 qs40 q321 q1473 np_X7 rfl OB_7 pd_X7_statement (Nat.le_of_ble_eq_true rfl) hd1 (hc_M1 (r := r19) (IH _ _ _ _ e20 am12) z23) (hc_rb rfl) rfl
    · rw [ht_1 z14] at h
      obtain rfl := Option.some.inj h
      exact hs_callVx (HX z14) hem 7 [] _ dX7_looping_23 q1507 q1509 qs47 q321 q1510 np_X7 rfl OB_7 pd_X7_condition (Nat.le_of_ble_eq_true rfl) hd1 (hc_M1 (r := r10) (okX7_condition l E A (d - 1) n k0 (by omega)  e11 am7) z14) (hc_rb rfl) rfl
  · rw [ht_1 z9] at h
    obtain rfl := Option.some.inj h
    exact hs_callVx (HX z9) hem 7 [] _ dX7_looping_14 q1336 q1338 qs17 q321 q1339 np_X7 rfl OB_7 pd_X7_opens (Nat.le_of_ble_eq_true rfl) hd1 (hc_M1 (r := r5) (okX7_opens l E A (d - 1) n (by omega)  e6 am3) z9) (hc_rb rfl) rfl
/-- HomeCompiler$Reader.doing(I)I -/
def bd_X7_doing (n : Nat) (k0 : Nat) (rec : Nat → List Int32 → hc_St → Option (Nat × Int32 × hc_St)) (x1 : Int32) (σ : hc_St) : Option (Nat × Int32 × hc_St) := Option.bind (fm_X6_make 15 0 0 x1 σ) fun r1 => Option.bind (fm_X7_opens n r1.2) fun r5 => ht r5 <| Option.bind (rec 1 [] r5.2.2) fun r10 => ht r10 <| Option.bind (fm_X6_hang r1.1 r10.2.1 r10.2.2) fun r15 => Option.bind (fm_X7_takesWord n 6 r15) fun r19 => Option.bind (fm_X7_need r19.1 r19.2) fun r23 => ht r23 <| Option.bind (fm_X7_condition n k0 r23.2.2) fun r28 => ht r28 <| Option.bind (fm_X6_hang r1.1 r28.2.1 r28.2.2) fun r33 => Option.bind (fm_X7_take n 59 r33) fun r37 => ht r37 <| hl (pI r37.2.2 7 2 ((((gI r37.2.2 7 2)) - 1))) fun σ42 => some (0, r1.1, σ42)
set_option maxRecDepth 20000 in
set_option maxHeartbeats 4000000 in
theorem okbX7_doing (l : Launch) (E : hc_E) (A : Nat → Prop) (d : Nat) {kk : Nat} (n : Nat) (k0 : Nat) (rec : Nat → List Int32 → hc_St → Option (Nat × Int32 × hc_St)) (hD : kk + 1 * k0 + 21 ≤ d) (IH : ∀ (w : Nat) (a : List Int32) (σ : hc_St) (r : (Nat × Int32 × hc_St)), rec w a σ = some r → ∀ am, okg_X7_block l E A (d - 1) am w a σ r) {x1 : Int32} {σ : hc_St} {r : (Nat × Int32 × hc_St)} (h : bd_X7_doing n k0 rec x1 σ = some r) (am : Nat → Nat → Nat) : hc_M l hc_V0 yX7_doing (ws_ yX7_doing cX7_doing 3 (some .int)) d E A [.ref (E.2.1 7), .int x1] am [2, 3, 4, 6, 12, 22] σ (hc_ot (fun v => some (.int v)) r) r.2.2 := by
  have hd1 : 1 ≤ d := by omega
  have hd8 : 9 ≤ d := by omega
  have hd12 : 12 ≤ d := by omega
  refine hc_enter2 (own := RX7) [(0, .ref (E.2.1 7)), (1, .int x1)] pl_X7 rfl hc_V0_st hc_G0_nd rfl (Nat.le_of_ble_eq_true rfl) (fun X hC hem => ?_)
  have HX := fun z => hc_CX hC z
  unfold bd_X7_doing at h
  refine hr_aload_n hC dX7_doing_0 rfl ?_
  refine hr_gO 6 hC F7_1 rfl dX7_doing_1 q566 ?_
  refine hr_bipush (v := 15) hC dX7_doing_4 rfl ?_
  refine hr_iconst (v := 0) hC dX7_doing_6 rfl ?_
  refine hr_iconst (v := 0) hC dX7_doing_7 rfl ?_
  refine hr_iload_n hC dX7_doing_8 rfl ?_
  obtain ⟨r1, e2, h⟩ := hx_bind h
  refine hs_callV hC 6 [_, _, _, _] _ dX7_doing_9 q1230 q1231 q1232 q320 q1233 np_X6 rfl OB_6 pd_X6_make (Nat.le_of_ble_eq_true rfl) hd1 (okX6_make l E A (d - 1)  (by omega)  e2 am) (hc_rb rfl) rfl (fun am3 ha4 => ?_)
  refine hr_istore_n hC dX7_doing_12 (by decide) ?_
  refine hr_aload_n hC dX7_doing_13 rfl ?_
  obtain ⟨r5, e6, h⟩ := hx_bind h
  by_cases z9 : r5.1 = 0
  · rw [ht_0 z9] at h
    refine hs_callV hC 7 [] _ dX7_doing_14 q1336 q1338 qs17 q321 q1339 np_X7 rfl OB_7 pd_X7_opens (Nat.le_of_ble_eq_true rfl) hd1 (hc_M0 (r := r5) (okX7_opens l E A (d - 1) n (by omega)  e6 am3) z9) (hc_rb rfl) rfl (fun am7 ha8 => ?_)
    refine hr_aload_n hC dX7_doing_17 rfl ?_
    refine hr_gO 6 hC F7_1 rfl dX7_doing_18 q566 ?_
    refine hr_iload_n hC dX7_doing_21 rfl ?_
    refine hr_aload_n hC dX7_doing_22 rfl ?_
    obtain ⟨r10, e11, h⟩ := hx_bind h
    by_cases z14 : r10.1 = 0
    · rw [ht_0 z14] at h
      refine hs_callV hC 7 [] _ dX7_doing_23 q1470 q1472 qs40 q321 q1473 np_X7 rfl OB_7 pd_X7_statement (Nat.le_of_ble_eq_true rfl) hd1 (hc_M0 (r := r10) (IH _ _ _ _ e11 am7) z14) (hc_rb rfl) rfl (fun am12 ha13 => ?_)
      obtain ⟨r15, e16, h⟩ := hx_bind h
      refine hs_callV0 hC 6 [_, _] _ dX7_doing_26 q1412 q1378 q1379 q320 q1380 np_X6 rfl OB_6 pd_X6_hang (Nat.le_of_ble_eq_true rfl) hd1 (okX6_hang l E A (d - 1)  (by omega)  e16 am12) rfl ?_
      refine hr_aload_n hC dX7_doing_29 rfl ?_
      refine hr_bipush (v := 6) hC dX7_doing_30 rfl ?_
      obtain ⟨r19, e20, h⟩ := hx_bind h
      refine hs_callV hC 7 [_] _ dX7_doing_32 q1454 q1456 qs37 q321 q1457 np_X7 rfl OB_7 pd_X7_takesWord (Nat.le_of_ble_eq_true rfl) hd1 (okX7_takesWord l E A (d - 1) n (by omega)  e20 am12) (hc_rb rfl) rfl (fun am21 ha22 => ?_)
      obtain ⟨r23, e24, h⟩ := hx_bind h
      by_cases z27 : r23.1 = 0
      · rw [ht_0 z27] at h
        refine hs_callS0 hC [_] _ dX7_doing_35 q1267 q1268 q321 q1269 np_X7 rfl pd_X7_need (Nat.le_of_ble_eq_true rfl) hd1 (hc_M0 (r := r23) (okX7_need l E A (d - 1)  (by omega)  e24 am21) z27) rfl ?_
        refine hr_aload_n hC dX7_doing_38 rfl ?_
        refine hr_gO 6 hC F7_1 rfl dX7_doing_39 q566 ?_
        refine hr_iload_n hC dX7_doing_42 rfl ?_
        refine hr_aload_n hC dX7_doing_43 rfl ?_
        obtain ⟨r28, e29, h⟩ := hx_bind h
        by_cases z32 : r28.1 = 0
        · rw [ht_0 z32] at h
          refine hs_callV hC 7 [] _ dX7_doing_44 q1507 q1509 qs47 q321 q1510 np_X7 rfl OB_7 pd_X7_condition (Nat.le_of_ble_eq_true rfl) hd1 (hc_M0 (r := r28) (okX7_condition l E A (d - 1) n k0 (by omega)  e29 am21) z32) (hc_rb rfl) rfl (fun am30 ha31 => ?_)
          obtain ⟨r33, e34, h⟩ := hx_bind h
          refine hs_callV0 hC 6 [_, _] _ dX7_doing_47 q1412 q1378 q1379 q320 q1380 np_X6 rfl OB_6 pd_X6_hang (Nat.le_of_ble_eq_true rfl) hd1 (okX6_hang l E A (d - 1)  (by omega)  e34 am30) rfl ?_
          refine hr_aload_n hC dX7_doing_50 rfl ?_
          refine hr_bipush (v := 59) hC dX7_doing_51 rfl ?_
          obtain ⟨r37, e38, h⟩ := hx_bind h
          by_cases z41 : r37.1 = 0
          · rw [ht_0 z41] at h
            refine hs_callV hC 7 [_] _ dX7_doing_53 q1434 q1436 qs32 q321 q1437 np_X7 rfl OB_7 pd_X7_take (Nat.le_of_ble_eq_true rfl) hd1 (hc_M0 (r := r37) (okX7_take l E A (d - 1) n (by omega)  e38 am30) z41) (hc_rb rfl) rfl (fun am39 ha40 => ?_)
            refine hr_aload_n hC dX7_doing_56 rfl ?_
            refine hr_dup hC dX7_doing_57 rfl ?_
            refine hr_gI hC F7_2 dX7_doing_58 q567 ?_
            refine hr_iconst (v := 1) hC dX7_doing_61 rfl ?_
            refine hr_isub hC dX7_doing_62 ?_
            obtain ⟨σ42, hσ42, h⟩ := hl_ok h
            refine hr_pI hC F7_2 PX7_2 dX7_doing_63 q567 ?_
            rw [← hσ42]
            refine hr_iload_n hC dX7_doing_66 rfl ?_
            obtain rfl := Option.some.inj h
            exact hr_iret hC dX7_doing_67
          · rw [ht_1 z41] at h
            obtain rfl := Option.some.inj h
            exact hs_callVx (HX z41) hem 7 [_] _ dX7_doing_53 q1434 q1436 qs32 q321 q1437 np_X7 rfl OB_7 pd_X7_take (Nat.le_of_ble_eq_true rfl) hd1 (hc_M1 (r := r37) (okX7_take l E A (d - 1) n (by omega)  e38 am30) z41) (hc_rb rfl) rfl
        · rw [ht_1 z32] at h
          obtain rfl := Option.some.inj h
          exact hs_callVx (HX z32) hem 7 [] _ dX7_doing_44 q1507 q1509 qs47 q321 q1510 np_X7 rfl OB_7 pd_X7_condition (Nat.le_of_ble_eq_true rfl) hd1 (hc_M1 (r := r28) (okX7_condition l E A (d - 1) n k0 (by omega)  e29 am21) z32) (hc_rb rfl) rfl
      · rw [ht_1 z27] at h
        obtain rfl := Option.some.inj h
        exact hs_callSx (HX z27) hem [_] _ dX7_doing_35 q1267 q1268 q321 q1269 np_X7 rfl pd_X7_need (Nat.le_of_ble_eq_true rfl) hd1 (hc_M1 (r := r23) (okX7_need l E A (d - 1)  (by omega)  e24 am21) z27) (hc_rb rfl) rfl
    · rw [ht_1 z14] at h
      obtain rfl := Option.some.inj h
      exact hs_callVx (HX z14) hem 7 [] _ dX7_doing_23 q1470 q1472 qs40 q321 q1473 np_X7 rfl OB_7 pd_X7_statement (Nat.le_of_ble_eq_true rfl) hd1 (hc_M1 (r := r10) (IH _ _ _ _ e11 am7) z14) (hc_rb rfl) rfl
  · rw [ht_1 z9] at h
    obtain rfl := Option.some.inj h
    exact hs_callVx (HX z9) hem 7 [] _ dX7_doing_14 q1336 q1338 qs17 q321 q1339 np_X7 rfl OB_7 pd_X7_opens (Nat.le_of_ble_eq_true rfl) hd1 (hc_M1 (r := r5) (okX7_opens l E A (d - 1) n (by omega)  e6 am3) z9) (hc_rb rfl) rfl
/-- HomeCompiler$Reader.counting(I)I -/
def bd_X7_counting (n : Nat) (k0 : Nat) (rec : Nat → List Int32 → hc_St → Option (Nat × Int32 × hc_St)) (x1 : Int32) (σ : hc_St) : Option (Nat × Int32 × hc_St) := Option.bind (fm_X6_make 16 0 0 x1 σ) fun r1 => Option.bind (fm_X7_opens n r1.2) fun r5 => ht r5 <| Option.bind (fm_X7_bracket n 40 r5.2.2) fun r10 => ht r10 <| Option.bind (fm_X7_isDeclaration  r10.2.2) fun r15 => Option.bind (α := Nat × hc_St × Int32) (if r15 = 0 then (Option.bind (fm_X7_is 59 r10.2.2) fun r25 => Option.bind (α := Nat × hc_St × Int32) (if r25 = 0 then (Option.bind (fm_X7_expression n k0 r10.2.2) fun r35 => hv r35 (0) <| some (0, r35.2.2, r35.2.1)) else (Option.bind (fm_X7_empty  r10.2.2) fun r40 => some (0, r40.2, r40.1))) fun r31 => hw r31 (0) <| Option.bind (fm_X6_hang r1.1 r31.2.2 r31.2.1) fun r45 => Option.bind (fm_X7_take n 59 r45) fun r49 => hv r49 (0) <| some (0, r49.2.2, (0 : Int32))) else (Option.bind (fm_X7_variables n k0 r10.2.2) fun r54 => hv r54 (0) <| Option.bind (fm_X6_hang r1.1 r54.2.1 r54.2.2) fun r59 => some (0, r59, (0 : Int32)))) fun r21 => hu r21 <| Option.bind (fm_X7_is 59 r21.2.1) fun r64 => Option.bind (α := Nat × hc_St × Int32) (if r64 = 0 then (Option.bind (fm_X7_expression n k0 r21.2.1) fun r74 => hv r74 (0) <| some (0, r74.2.2, r74.2.1)) else (Option.bind (fm_X7_empty  r21.2.1) fun r79 => some (0, r79.2, r79.1))) fun r70 => hu r70 <| Option.bind (fm_X6_hang r1.1 r70.2.2 r70.2.1) fun r84 => Option.bind (fm_X7_take n 59 r84) fun r88 => ht r88 <| Option.bind (fm_X7_is 41 r88.2.2) fun r93 => Option.bind (α := Nat × hc_St × Int32) (if r93 = 0 then (Option.bind (fm_X7_expression n k0 r88.2.2) fun r103 => hv r103 (0) <| some (0, r103.2.2, r103.2.1)) else (Option.bind (fm_X7_empty  r88.2.2) fun r108 => some (0, r108.2, r108.1))) fun r99 => hu r99 <| Option.bind (fm_X6_hang r1.1 r99.2.2 r99.2.1) fun r113 => Option.bind (fm_X7_closes n 41 r113) fun r117 => ht r117 <| Option.bind (rec 1 [] r117.2.2) fun r122 => ht r122 <| Option.bind (fm_X6_hang r1.1 r122.2.1 r122.2.2) fun r127 => hl (pI r127 7 2 ((((gI r127 7 2)) - 1))) fun σ131 => some (0, r1.1, σ131)
set_option maxRecDepth 20000 in
set_option maxHeartbeats 4000000 in
theorem okbX7_counting (l : Launch) (E : hc_E) (A : Nat → Prop) (d : Nat) {kk : Nat} (n : Nat) (k0 : Nat) (rec : Nat → List Int32 → hc_St → Option (Nat × Int32 × hc_St)) (hD : kk + 1 * k0 + 21 ≤ d) (IH : ∀ (w : Nat) (a : List Int32) (σ : hc_St) (r : (Nat × Int32 × hc_St)), rec w a σ = some r → ∀ am, okg_X7_block l E A (d - 1) am w a σ r) {x1 : Int32} {σ : hc_St} {r : (Nat × Int32 × hc_St)} (h : bd_X7_counting n k0 rec x1 σ = some r) (am : Nat → Nat → Nat) : hc_M l hc_V0 yX7_counting (ws_ yX7_counting cX7_counting 3 (some .int)) d E A [.ref (E.2.1 7), .int x1] am [2, 3, 4, 6, 12, 22] σ (hc_ot (fun v => some (.int v)) r) r.2.2 := by
  have hd1 : 1 ≤ d := by omega
  have hd8 : 9 ≤ d := by omega
  have hd12 : 12 ≤ d := by omega
  refine hc_enter2 (own := RX7) [(0, .ref (E.2.1 7)), (1, .int x1)] pl_X7 rfl hc_V0_st hc_G0_nd rfl (Nat.le_of_ble_eq_true rfl) (fun X hC hem => ?_)
  have HX := fun z => hc_CX hC z
  unfold bd_X7_counting at h
  refine hr_aload_n hC dX7_counting_0 rfl ?_
  refine hr_gO 6 hC F7_1 rfl dX7_counting_1 q566 ?_
  refine hr_bipush (v := 16) hC dX7_counting_4 rfl ?_
  refine hr_iconst (v := 0) hC dX7_counting_6 rfl ?_
  refine hr_iconst (v := 0) hC dX7_counting_7 rfl ?_
  refine hr_iload_n hC dX7_counting_8 rfl ?_
  obtain ⟨r1, e2, h⟩ := hx_bind h
  refine hs_callV hC 6 [_, _, _, _] _ dX7_counting_9 q1230 q1231 q1232 q320 q1233 np_X6 rfl OB_6 pd_X6_make (Nat.le_of_ble_eq_true rfl) hd1 (okX6_make l E A (d - 1)  (by omega)  e2 am) (hc_rb rfl) rfl (fun am3 ha4 => ?_)
  refine hr_istore_n hC dX7_counting_12 (by decide) ?_
  refine hr_aload_n hC dX7_counting_13 rfl ?_
  obtain ⟨r5, e6, h⟩ := hx_bind h
  by_cases z9 : r5.1 = 0
  · rw [ht_0 z9] at h
    refine hs_callV hC 7 [] _ dX7_counting_14 q1336 q1338 qs17 q321 q1339 np_X7 rfl OB_7 pd_X7_opens (Nat.le_of_ble_eq_true rfl) hd1 (hc_M0 (r := r5) (okX7_opens l E A (d - 1) n (by omega)  e6 am3) z9) (hc_rb rfl) rfl (fun am7 ha8 => ?_)
    refine hr_aload_n hC dX7_counting_17 rfl ?_
    refine hr_bipush (v := 40) hC dX7_counting_18 rfl ?_
    obtain ⟨r10, e11, h⟩ := hx_bind h
    by_cases z14 : r10.1 = 0
    · rw [ht_0 z14] at h
      refine hs_callV hC 7 [_] _ dX7_counting_20 q1263 q1265 qs15 q321 q1266 np_X7 rfl OB_7 pd_X7_bracket (Nat.le_of_ble_eq_true rfl) hd1 (hc_M0 (r := r10) (okX7_bracket l E A (d - 1) n (by omega)  e11 am7) z14) (hc_rb rfl) rfl (fun am12 ha13 => ?_)
      refine hr_aload_n hC dX7_counting_23 rfl ?_
      obtain ⟨r15, e16, h⟩ := hx_bind h
      refine hs_callV0 hC 7 [] _ dX7_counting_24 q1474 q1476 qs41 q321 q1477 np_X7 rfl OB_7 pd_X7_isDeclaration (Nat.le_of_ble_eq_true rfl) hd1 (okX7_isDeclaration l E A (d - 1)  (by omega)  e16 am12) rfl ?_
      obtain ⟨r21, e22, h⟩ := hx_bind h
      have J23 : r21.1 = 0 → ∀ am63, hc_At hc_V0 E 3 X 79 [(0, .ref (E.2.1 7)), (2, .int r1.1)] [] r21.2.1 am63 [] := by
        intro z24 am63
        rw [hu_0 z24] at h
        refine hr_aload_n hC dX7_counting_79 rfl ?_
        refine hr_gO 6 hC F7_1 rfl dX7_counting_80 q566 ?_
        refine hr_iload_n hC dX7_counting_83 rfl ?_
        refine hr_aload_n hC dX7_counting_84 rfl ?_
        refine hr_bipush (v := 59) hC dX7_counting_85 rfl ?_
        obtain ⟨r64, e65, h⟩ := hx_bind h
        refine hs_callV0 hC 7 [_] _ dX7_counting_87 q1242 q1244 qs12 q321 q1245 np_X7 rfl OB_7 pd_X7_is (Nat.le_of_ble_eq_true rfl) hd1 (okX7_is l E A (d - 1)  (by omega)  e65 am63) rfl ?_
        obtain ⟨r70, e71, h⟩ := hx_bind h
        have J72 : r70.1 = 0 → ∀ am83, hc_At hc_V0 E 3 X 104 [(0, .ref (E.2.1 7)), (2, .int r1.1)] [.int r70.2.2, .int r1.1, .ref (E.2.1 6)] r70.2.1 am83 [] := by
          intro z73 am83
          rw [hu_0 z73] at h
          obtain ⟨r84, e85, h⟩ := hx_bind h
          refine hs_callV0 hC 6 [_, _] _ dX7_counting_104 q1412 q1378 q1379 q320 q1380 np_X6 rfl OB_6 pd_X6_hang (Nat.le_of_ble_eq_true rfl) hd1 (okX6_hang l E A (d - 1)  (by omega)  e85 am83) rfl ?_
          refine hr_aload_n hC dX7_counting_107 rfl ?_
          refine hr_bipush (v := 59) hC dX7_counting_108 rfl ?_
          obtain ⟨r88, e89, h⟩ := hx_bind h
          by_cases z92 : r88.1 = 0
          · rw [ht_0 z92] at h
            refine hs_callV hC 7 [_] _ dX7_counting_110 q1434 q1436 qs32 q321 q1437 np_X7 rfl OB_7 pd_X7_take (Nat.le_of_ble_eq_true rfl) hd1 (hc_M0 (r := r88) (okX7_take l E A (d - 1) n (by omega)  e89 am83) z92) (hc_rb rfl) rfl (fun am90 ha91 => ?_)
            refine hr_aload_n hC dX7_counting_113 rfl ?_
            refine hr_gO 6 hC F7_1 rfl dX7_counting_114 q566 ?_
            refine hr_iload_n hC dX7_counting_117 rfl ?_
            refine hr_aload_n hC dX7_counting_118 rfl ?_
            refine hr_bipush (v := 41) hC dX7_counting_119 rfl ?_
            obtain ⟨r93, e94, h⟩ := hx_bind h
            refine hs_callV0 hC 7 [_] _ dX7_counting_121 q1242 q1244 qs12 q321 q1245 np_X7 rfl OB_7 pd_X7_is (Nat.le_of_ble_eq_true rfl) hd1 (okX7_is l E A (d - 1)  (by omega)  e94 am90) rfl ?_
            obtain ⟨r99, e100, h⟩ := hx_bind h
            have J101 : r99.1 = 0 → ∀ am112, hc_At hc_V0 E 3 X 138 [(0, .ref (E.2.1 7)), (2, .int r1.1)] [.int r99.2.2, .int r1.1, .ref (E.2.1 6)] r99.2.1 am112 [] := by
              intro z102 am112
              rw [hu_0 z102] at h
              obtain ⟨r113, e114, h⟩ := hx_bind h
              refine hs_callV0 hC 6 [_, _] _ dX7_counting_138 q1412 q1378 q1379 q320 q1380 np_X6 rfl OB_6 pd_X6_hang (Nat.le_of_ble_eq_true rfl) hd1 (okX6_hang l E A (d - 1)  (by omega)  e114 am112) rfl ?_
              refine hr_aload_n hC dX7_counting_141 rfl ?_
              refine hr_bipush (v := 41) hC dX7_counting_142 rfl ?_
              obtain ⟨r117, e118, h⟩ := hx_bind h
              by_cases z121 : r117.1 = 0
              · rw [ht_0 z121] at h
                refine hs_callV hC 7 [_] _ dX7_counting_144 q1438 q1440 qs33 q321 q1441 np_X7 rfl OB_7 pd_X7_closes (Nat.le_of_ble_eq_true rfl) hd1 (hc_M0 (r := r117) (okX7_closes l E A (d - 1) n (by omega)  e118 am112) z121) (hc_rb rfl) rfl (fun am119 ha120 => ?_)
                refine hr_aload_n hC dX7_counting_147 rfl ?_
                refine hr_gO 6 hC F7_1 rfl dX7_counting_148 q566 ?_
                refine hr_iload_n hC dX7_counting_151 rfl ?_
                refine hr_aload_n hC dX7_counting_152 rfl ?_
                obtain ⟨r122, e123, h⟩ := hx_bind h
                by_cases z126 : r122.1 = 0
                · rw [ht_0 z126] at h
                  refine hs_callV hC 7 [] _ dX7_counting_153 q1470 q1472 qs40 q321 q1473 np_X7 rfl OB_7 pd_X7_statement (Nat.le_of_ble_eq_true rfl) hd1 (hc_M0 (r := r122) (IH _ _ _ _ e123 am119) z126) (hc_rb rfl) rfl (fun am124 ha125 => ?_)
                  obtain ⟨r127, e128, h⟩ := hx_bind h
                  refine hs_callV0 hC 6 [_, _] _ dX7_counting_156 q1412 q1378 q1379 q320 q1380 np_X6 rfl OB_6 pd_X6_hang (Nat.le_of_ble_eq_true rfl) hd1 (okX6_hang l E A (d - 1)  (by omega)  e128 am124) rfl ?_
                  refine hr_aload_n hC dX7_counting_159 rfl ?_
                  refine hr_dup hC dX7_counting_160 rfl ?_
                  refine hr_gI hC F7_2 dX7_counting_161 q567 ?_
                  refine hr_iconst (v := 1) hC dX7_counting_164 rfl ?_
                  refine hr_isub hC dX7_counting_165 ?_
                  obtain ⟨σ131, hσ131, h⟩ := hl_ok h
                  refine hr_pI hC F7_2 PX7_2 dX7_counting_166 q567 ?_
                  rw [← hσ131]
                  refine hr_iload_n hC dX7_counting_169 rfl ?_
                  obtain rfl := Option.some.inj h
                  exact hr_iret hC dX7_counting_170
                · rw [ht_1 z126] at h
                  obtain rfl := Option.some.inj h
                  exact hs_callVx (HX z126) hem 7 [] _ dX7_counting_153 q1470 q1472 qs40 q321 q1473 np_X7 rfl OB_7 pd_X7_statement (Nat.le_of_ble_eq_true rfl) hd1 (hc_M1 (r := r122) (IH _ _ _ _ e123 am119) z126) (hc_rb rfl) rfl
              · rw [ht_1 z121] at h
                obtain rfl := Option.some.inj h
                exact hs_callVx (HX z121) hem 7 [_] _ dX7_counting_144 q1438 q1440 qs33 q321 q1441 np_X7 rfl OB_7 pd_X7_closes (Nat.le_of_ble_eq_true rfl) hd1 (hc_M1 (r := r117) (okX7_closes l E A (d - 1) n (by omega)  e118 am112) z121) (hc_rb rfl) rfl
            have HX : r99.1 ≠ 0 → hc_C hc_V0 E cX7_counting 3 RX7 (some .int) d (.inr r99.1) r99.2.1 (l, A, am, [2, 3, 4, 6, 12, 22]) X := by
              intro z102
              rw [hu_1 z102] at h
              obtain rfl := Option.some.inj h
              exact HX z102
            clear h
            have h := e100
            refine hr_if_eq (x := _) hC 134 dX7_counting_124 (by decide) (fun c98 => ?_) (fun c98 => ?_)
            · rw [if_pos c98] at h
              refine hr_aload_n hC dX7_counting_134 rfl ?_
              obtain ⟨r103, e104, h⟩ := hx_bind h
              by_cases z107 : r103.1 = 0
              · rw [hv_0 z107] at h
                refine hs_callV hC 7 [] _ dX7_counting_135 q1396 q1398 qs25 q321 q1399 np_X7 rfl OB_7 pd_X7_expression (Nat.le_of_ble_eq_true rfl) hd1 (hc_M0 (r := r103) (okX7_expression l E A (d - 1) n k0 (by omega)  e104 am90) z107) (hc_rb rfl) rfl (fun am105 ha106 => ?_)
                obtain rfl := Option.some.inj h
                exact hr_sub _ rfl (J101 rfl am105)
              · rw [hv_1 z107] at h
                obtain rfl := Option.some.inj h
                exact hs_callVx (HX z107) hem 7 [] _ dX7_counting_135 q1396 q1398 qs25 q321 q1399 np_X7 rfl OB_7 pd_X7_expression (Nat.le_of_ble_eq_true rfl) hd1 (hc_M1 (r := r103) (okX7_expression l E A (d - 1) n k0 (by omega)  e104 am90) z107) (hc_rb rfl) rfl
            · rw [if_neg c98] at h
              refine hr_aload_n hC dX7_counting_127 rfl ?_
              obtain ⟨r108, e109, h⟩ := hx_bind h
              refine hs_callV hC 7 [] _ dX7_counting_128 q1523 q1525 qs51 q321 q1526 np_X7 rfl OB_7 pd_X7_empty (Nat.le_of_ble_eq_true rfl) hd1 (okX7_empty l E A (d - 1)  (by omega)  e109 am90) (hc_rb rfl) rfl (fun am110 ha111 => ?_)
              refine hr_goto hC 138 dX7_counting_131 (by decide) ?_
              obtain rfl := Option.some.inj h
              exact hr_sub _ rfl (J101 rfl am110)
          · rw [ht_1 z92] at h
            obtain rfl := Option.some.inj h
            exact hs_callVx (HX z92) hem 7 [_] _ dX7_counting_110 q1434 q1436 qs32 q321 q1437 np_X7 rfl OB_7 pd_X7_take (Nat.le_of_ble_eq_true rfl) hd1 (hc_M1 (r := r88) (okX7_take l E A (d - 1) n (by omega)  e89 am83) z92) (hc_rb rfl) rfl
        have HX : r70.1 ≠ 0 → hc_C hc_V0 E cX7_counting 3 RX7 (some .int) d (.inr r70.1) r70.2.1 (l, A, am, [2, 3, 4, 6, 12, 22]) X := by
          intro z73
          rw [hu_1 z73] at h
          obtain rfl := Option.some.inj h
          exact HX z73
        clear h
        have h := e71
        refine hr_if_eq (x := _) hC 100 dX7_counting_90 (by decide) (fun c69 => ?_) (fun c69 => ?_)
        · rw [if_pos c69] at h
          refine hr_aload_n hC dX7_counting_100 rfl ?_
          obtain ⟨r74, e75, h⟩ := hx_bind h
          by_cases z78 : r74.1 = 0
          · rw [hv_0 z78] at h
            refine hs_callV hC 7 [] _ dX7_counting_101 q1396 q1398 qs25 q321 q1399 np_X7 rfl OB_7 pd_X7_expression (Nat.le_of_ble_eq_true rfl) hd1 (hc_M0 (r := r74) (okX7_expression l E A (d - 1) n k0 (by omega)  e75 am63) z78) (hc_rb rfl) rfl (fun am76 ha77 => ?_)
            obtain rfl := Option.some.inj h
            exact hr_sub _ rfl (J72 rfl am76)
          · rw [hv_1 z78] at h
            obtain rfl := Option.some.inj h
            exact hs_callVx (HX z78) hem 7 [] _ dX7_counting_101 q1396 q1398 qs25 q321 q1399 np_X7 rfl OB_7 pd_X7_expression (Nat.le_of_ble_eq_true rfl) hd1 (hc_M1 (r := r74) (okX7_expression l E A (d - 1) n k0 (by omega)  e75 am63) z78) (hc_rb rfl) rfl
        · rw [if_neg c69] at h
          refine hr_aload_n hC dX7_counting_93 rfl ?_
          obtain ⟨r79, e80, h⟩ := hx_bind h
          refine hs_callV hC 7 [] _ dX7_counting_94 q1523 q1525 qs51 q321 q1526 np_X7 rfl OB_7 pd_X7_empty (Nat.le_of_ble_eq_true rfl) hd1 (okX7_empty l E A (d - 1)  (by omega)  e80 am63) (hc_rb rfl) rfl (fun am81 ha82 => ?_)
          refine hr_goto hC 104 dX7_counting_97 (by decide) ?_
          obtain rfl := Option.some.inj h
          exact hr_sub _ rfl (J72 rfl am81)
      have HX : r21.1 ≠ 0 → hc_C hc_V0 E cX7_counting 3 RX7 (some .int) d (.inr r21.1) r21.2.1 (l, A, am, [2, 3, 4, 6, 12, 22]) X := by
        intro z24
        rw [hu_1 z24] at h
        obtain rfl := Option.some.inj h
        exact HX z24
      clear h
      have h := e22
      refine hr_if_eq (x := _) hC 45 dX7_counting_27 (by decide) (fun c20 => ?_) (fun c20 => ?_)
      · rw [if_pos c20] at h
        refine hr_aload_n hC dX7_counting_45 rfl ?_
        refine hr_gO 6 hC F7_1 rfl dX7_counting_46 q566 ?_
        refine hr_iload_n hC dX7_counting_49 rfl ?_
        refine hr_aload_n hC dX7_counting_50 rfl ?_
        refine hr_bipush (v := 59) hC dX7_counting_51 rfl ?_
        obtain ⟨r25, e26, h⟩ := hx_bind h
        refine hs_callV0 hC 7 [_] _ dX7_counting_53 q1242 q1244 qs12 q321 q1245 np_X7 rfl OB_7 pd_X7_is (Nat.le_of_ble_eq_true rfl) hd1 (okX7_is l E A (d - 1)  (by omega)  e26 am12) rfl ?_
        obtain ⟨r31, e32, h⟩ := hx_bind h
        have J33 : r31.1 = 0 → ∀ am44, hc_At hc_V0 E 3 X 70 [(0, .ref (E.2.1 7)), (2, .int r1.1)] [.int r31.2.2, .int r1.1, .ref (E.2.1 6)] r31.2.1 am44 [] := by
          intro z34 am44
          rw [hw_0 z34] at h
          obtain ⟨r45, e46, h⟩ := hx_bind h
          refine hs_callV0 hC 6 [_, _] _ dX7_counting_70 q1412 q1378 q1379 q320 q1380 np_X6 rfl OB_6 pd_X6_hang (Nat.le_of_ble_eq_true rfl) hd1 (okX6_hang l E A (d - 1)  (by omega)  e46 am44) rfl ?_
          refine hr_aload_n hC dX7_counting_73 rfl ?_
          refine hr_bipush (v := 59) hC dX7_counting_74 rfl ?_
          obtain ⟨r49, e50, h⟩ := hx_bind h
          by_cases z53 : r49.1 = 0
          · rw [hv_0 z53] at h
            refine hs_callV hC 7 [_] _ dX7_counting_76 q1434 q1436 qs32 q321 q1437 np_X7 rfl OB_7 pd_X7_take (Nat.le_of_ble_eq_true rfl) hd1 (hc_M0 (r := r49) (okX7_take l E A (d - 1) n (by omega)  e50 am44) z53) (hc_rb rfl) rfl (fun am51 ha52 => ?_)
            obtain rfl := Option.some.inj h
            exact hr_sub _ rfl (J23 rfl am51)
          · rw [hv_1 z53] at h
            obtain rfl := Option.some.inj h
            exact hs_callVx (HX z53) hem 7 [_] _ dX7_counting_76 q1434 q1436 qs32 q321 q1437 np_X7 rfl OB_7 pd_X7_take (Nat.le_of_ble_eq_true rfl) hd1 (hc_M1 (r := r49) (okX7_take l E A (d - 1) n (by omega)  e50 am44) z53) (hc_rb rfl) rfl
        have HX : r31.1 ≠ 0 → hc_C hc_V0 E cX7_counting 3 RX7 (some .int) d (.inr r31.1) r31.2.1 (l, A, am, [2, 3, 4, 6, 12, 22]) X := by
          intro z34
          rw [hw_1 z34] at h
          obtain rfl := Option.some.inj h
          exact HX z34
        clear h
        have h := e32
        refine hr_if_eq (x := _) hC 66 dX7_counting_56 (by decide) (fun c30 => ?_) (fun c30 => ?_)
        · rw [if_pos c30] at h
          refine hr_aload_n hC dX7_counting_66 rfl ?_
          obtain ⟨r35, e36, h⟩ := hx_bind h
          by_cases z39 : r35.1 = 0
          · rw [hv_0 z39] at h
            refine hs_callV hC 7 [] _ dX7_counting_67 q1396 q1398 qs25 q321 q1399 np_X7 rfl OB_7 pd_X7_expression (Nat.le_of_ble_eq_true rfl) hd1 (hc_M0 (r := r35) (okX7_expression l E A (d - 1) n k0 (by omega)  e36 am12) z39) (hc_rb rfl) rfl (fun am37 ha38 => ?_)
            obtain rfl := Option.some.inj h
            exact hr_sub _ rfl (J33 rfl am37)
          · rw [hv_1 z39] at h
            obtain rfl := Option.some.inj h
            exact hs_callVx (HX z39) hem 7 [] _ dX7_counting_67 q1396 q1398 qs25 q321 q1399 np_X7 rfl OB_7 pd_X7_expression (Nat.le_of_ble_eq_true rfl) hd1 (hc_M1 (r := r35) (okX7_expression l E A (d - 1) n k0 (by omega)  e36 am12) z39) (hc_rb rfl) rfl
        · rw [if_neg c30] at h
          refine hr_aload_n hC dX7_counting_59 rfl ?_
          obtain ⟨r40, e41, h⟩ := hx_bind h
          refine hs_callV hC 7 [] _ dX7_counting_60 q1523 q1525 qs51 q321 q1526 np_X7 rfl OB_7 pd_X7_empty (Nat.le_of_ble_eq_true rfl) hd1 (okX7_empty l E A (d - 1)  (by omega)  e41 am12) (hc_rb rfl) rfl (fun am42 ha43 => ?_)
          refine hr_goto hC 70 dX7_counting_63 (by decide) ?_
          obtain rfl := Option.some.inj h
          exact hr_sub _ rfl (J33 rfl am42)
      · rw [if_neg c20] at h
        refine hr_aload_n hC dX7_counting_30 rfl ?_
        refine hr_gO 6 hC F7_1 rfl dX7_counting_31 q566 ?_
        refine hr_iload_n hC dX7_counting_34 rfl ?_
        refine hr_aload_n hC dX7_counting_35 rfl ?_
        obtain ⟨r54, e55, h⟩ := hx_bind h
        by_cases z58 : r54.1 = 0
        · rw [hv_0 z58] at h
          refine hs_callV hC 7 [] _ dX7_counting_36 q1478 q1480 qs42 q321 q1481 np_X7 rfl OB_7 pd_X7_variables (Nat.le_of_ble_eq_true rfl) hd1 (hc_M0 (r := r54) (okX7_variables l E A (d - 1) n k0 (by omega)  e55 am12) z58) (hc_rb rfl) rfl (fun am56 ha57 => ?_)
          obtain ⟨r59, e60, h⟩ := hx_bind h
          refine hs_callV0 hC 6 [_, _] _ dX7_counting_39 q1412 q1378 q1379 q320 q1380 np_X6 rfl OB_6 pd_X6_hang (Nat.le_of_ble_eq_true rfl) hd1 (okX6_hang l E A (d - 1)  (by omega)  e60 am56) rfl ?_
          refine hr_goto hC 79 dX7_counting_42 (by decide) ?_
          obtain rfl := Option.some.inj h
          exact hr_sub _ rfl (J23 rfl am56)
        · rw [hv_1 z58] at h
          obtain rfl := Option.some.inj h
          exact hs_callVx (HX z58) hem 7 [] _ dX7_counting_36 q1478 q1480 qs42 q321 q1481 np_X7 rfl OB_7 pd_X7_variables (Nat.le_of_ble_eq_true rfl) hd1 (hc_M1 (r := r54) (okX7_variables l E A (d - 1) n k0 (by omega)  e55 am12) z58) (hc_rb rfl) rfl
    · rw [ht_1 z14] at h
      obtain rfl := Option.some.inj h
      exact hs_callVx (HX z14) hem 7 [_] _ dX7_counting_20 q1263 q1265 qs15 q321 q1266 np_X7 rfl OB_7 pd_X7_bracket (Nat.le_of_ble_eq_true rfl) hd1 (hc_M1 (r := r10) (okX7_bracket l E A (d - 1) n (by omega)  e11 am7) z14) (hc_rb rfl) rfl
  · rw [ht_1 z9] at h
    obtain rfl := Option.some.inj h
    exact hs_callVx (HX z9) hem 7 [] _ dX7_counting_14 q1336 q1338 qs17 q321 q1339 np_X7 rfl OB_7 pd_X7_opens (Nat.le_of_ble_eq_true rfl) hd1 (hc_M1 (r := r5) (okX7_opens l E A (d - 1) n (by omega)  e6 am3) z9) (hc_rb rfl) rfl
def lp_X7_switching_70 (n : Nat) (k0 : Nat) (rec : Nat → List Int32 → hc_St → Option (Nat × Int32 × hc_St)) : Nat → Int32 → hc_St → Option (Nat × hc_St × Int32)
  | 0, _, _ => none
  | m + 1, y2, σ => Option.bind (fm_X7_is 125 σ) fun r51 => if r51 = 0 then (Option.bind (rec 7 [] σ) fun r57 => hv r57 (0) <| Option.bind (fm_X6_hang y2 r57.2.1 r57.2.2) fun r62 => lp_X7_switching_70 n k0 rec m y2 r62) else (some (0, σ, 0))
/-- HomeCompiler$Reader.switching(I)I -/
def bd_X7_switching (n : Nat) (k0 : Nat) (rec : Nat → List Int32 → hc_St → Option (Nat × Int32 × hc_St)) (x1 : Int32) (σ : hc_St) : Option (Nat × Int32 × hc_St) := Option.bind (fm_X6_make 17 0 0 x1 σ) fun r1 => Option.bind (fm_X7_opens n r1.2) fun r5 => ht r5 <| Option.bind (fm_X7_condition n k0 r5.2.2) fun r10 => ht r10 <| Option.bind (fm_X6_hang r1.1 r10.2.1 r10.2.2) fun r15 => Option.bind (fm_X7_bracket n 123 r15) fun r19 => ht r19 <| Option.bind (fm_X7_is 125 r19.2.2) fun r24 => Option.bind (α := Int32) (if r24 = 0 then (Option.bind (fm_X7_isWord 10 r19.2.2) fun r34 => if r34 = 0 then (Option.bind (fm_X7_isWord 11 r19.2.2) fun r40 => if r40 = 0 then (some (0)) else (some (1))) else (some (1))) else (some (1))) fun r30 => Option.bind (fm_X7_need r30 r19.2.2) fun r46 => ht r46 <| Option.bind (lp_X7_switching_70 n k0 rec n r1.1 r46.2.2) fun r66 => hu r66 <| Option.bind (fm_X7_closes n 125 r66.2.1) fun r71 => ht r71 <| hl (pI r71.2.2 7 2 ((((gI r71.2.2 7 2)) - 1))) fun σ76 => some (0, r1.1, σ76)
set_option maxRecDepth 20000 in
set_option maxHeartbeats 4000000 in
theorem ll_X7_switching_70 {l : Launch} {E : hc_E} {A : Nat → Prop} {am : Nat → Nat → Nat} {d : Nat} {kk : Nat} {X : hc_X} (n : Nat) (k0 : Nat) (rec : Nat → List Int32 → hc_St → Option (Nat × Int32 × hc_St)) (hD : kk + 1 * k0 + 21 ≤ d) (hem : X.2.2.2.2.2.2.2.2.2.1.exceptionTable.isEmpty = true) (IH : ∀ (w : Nat) (a : List Int32) (σ : hc_St) (r : (Nat × Int32 × hc_St)), rec w a σ = some r → ∀ am, okg_X7_block l E A (d - 1) am w a σ r) {oc : hc_Oc} {σe : hc_St} (hC : hc_C hc_V0 E cX7_switching 3 RX7 (some .int) d oc σe (l, A, am, [2, 3, 4, 6, 12, 22]) X) : ∀ (m : Nat) (σ : hc_St) (y2 : Int32) (rl : Nat × hc_St × Int32), lp_X7_switching_70 n k0 rec m y2 σ = some rl → (rl.1 = 0 → ∀ am1, hc_At hc_V0 E 3 X 94 [(0, .ref (E.2.1 7)), (2, .int y2)] [] rl.2.1 am1 []) → (rl.1 ≠ 0 → hc_C hc_V0 E cX7_switching 3 RX7 (some .int) d (.inr rl.1) rl.2.1 (l, A, am, [2, 3, 4, 6, 12, 22]) X) → ∀ am1, hc_At hc_V0 E 3 X 70 [(0, .ref (E.2.1 7)), (2, .int y2)] [] σ am1 [] := by
  have hd1 : 1 ≤ d := by omega
  have hd8 : 9 ≤ d := by omega
  have hd12 : 12 ≤ d := by omega
  intro m
  induction m with
  | zero =>
    intro σ y2 rl h
    cases h
  | succ m ih =>
    intro σ y2 rl h JX HX am1
    rw [lp_X7_switching_70] at h
    refine hr_aload_n hC dX7_switching_70 rfl ?_
    refine hr_bipush (v := 125) hC dX7_switching_71 rfl ?_
    obtain ⟨r51, e52, h⟩ := hx_bind h
    refine hs_callV0 hC 7 [_] _ dX7_switching_73 q1242 q1244 qs12 q321 q1245 np_X7 rfl OB_7 pd_X7_is (Nat.le_of_ble_eq_true rfl) hd1 (okX7_is l E A (d - 1)  (by omega)  e52 am1) rfl ?_
    refine hr_if_ne (x := _) hC 94 dX7_switching_76 (by decide) (fun c56 => ?_) (fun c56 => ?_)
    · rw [if_neg c56] at h
      obtain rfl := Option.some.inj h
      exact hr_sub _ rfl (JX rfl am1)
    · rw [if_pos c56] at h
      refine hr_aload_n hC dX7_switching_79 rfl ?_
      refine hr_gO 6 hC F7_1 rfl dX7_switching_80 q566 ?_
      refine hr_iload_n hC dX7_switching_83 rfl ?_
      refine hr_aload_n hC dX7_switching_84 rfl ?_
      obtain ⟨r57, e58, h⟩ := hx_bind h
      by_cases z61 : r57.1 = 0
      · rw [hv_0 z61] at h
        refine hs_callV hC 7 [] _ dX7_switching_85 q1531 q1533 qs53 q321 q1534 np_X7 rfl OB_7 pd_X7_part (Nat.le_of_ble_eq_true rfl) hd1 (hc_M0 (r := r57) (IH _ _ _ _ e58 am1) z61) (hc_rb rfl) rfl (fun am59 ha60 => ?_)
        obtain ⟨r62, e63, h⟩ := hx_bind h
        refine hs_callV0 hC 6 [_, _] _ dX7_switching_88 q1412 q1378 q1379 q320 q1380 np_X6 rfl OB_6 pd_X6_hang (Nat.le_of_ble_eq_true rfl) hd1 (okX6_hang l E A (d - 1)  (by omega)  e63 am59) rfl ?_
        refine hr_goto hC 70 dX7_switching_91 (by decide) ?_
        exact hr_sub _ rfl (ih _ _ _ h JX HX am59)
      · rw [hv_1 z61] at h
        obtain rfl := Option.some.inj h
        exact hs_callVx (HX z61) hem 7 [] _ dX7_switching_85 q1531 q1533 qs53 q321 q1534 np_X7 rfl OB_7 pd_X7_part (Nat.le_of_ble_eq_true rfl) hd1 (hc_M1 (r := r57) (IH _ _ _ _ e58 am1) z61) (hc_rb rfl) rfl
set_option maxRecDepth 20000 in
set_option maxHeartbeats 4000000 in
theorem okbX7_switching (l : Launch) (E : hc_E) (A : Nat → Prop) (d : Nat) {kk : Nat} (n : Nat) (k0 : Nat) (rec : Nat → List Int32 → hc_St → Option (Nat × Int32 × hc_St)) (hD : kk + 1 * k0 + 21 ≤ d) (IH : ∀ (w : Nat) (a : List Int32) (σ : hc_St) (r : (Nat × Int32 × hc_St)), rec w a σ = some r → ∀ am, okg_X7_block l E A (d - 1) am w a σ r) {x1 : Int32} {σ : hc_St} {r : (Nat × Int32 × hc_St)} (h : bd_X7_switching n k0 rec x1 σ = some r) (am : Nat → Nat → Nat) : hc_M l hc_V0 yX7_switching (ws_ yX7_switching cX7_switching 3 (some .int)) d E A [.ref (E.2.1 7), .int x1] am [2, 3, 4, 6, 12, 22] σ (hc_ot (fun v => some (.int v)) r) r.2.2 := by
  have hd1 : 1 ≤ d := by omega
  have hd8 : 9 ≤ d := by omega
  have hd12 : 12 ≤ d := by omega
  refine hc_enter2 (own := RX7) [(0, .ref (E.2.1 7)), (1, .int x1)] pl_X7 rfl hc_V0_st hc_G0_nd rfl (Nat.le_of_ble_eq_true rfl) (fun X hC hem => ?_)
  have HX := fun z => hc_CX hC z
  unfold bd_X7_switching at h
  refine hr_aload_n hC dX7_switching_0 rfl ?_
  refine hr_gO 6 hC F7_1 rfl dX7_switching_1 q566 ?_
  refine hr_bipush (v := 17) hC dX7_switching_4 rfl ?_
  refine hr_iconst (v := 0) hC dX7_switching_6 rfl ?_
  refine hr_iconst (v := 0) hC dX7_switching_7 rfl ?_
  refine hr_iload_n hC dX7_switching_8 rfl ?_
  obtain ⟨r1, e2, h⟩ := hx_bind h
  refine hs_callV hC 6 [_, _, _, _] _ dX7_switching_9 q1230 q1231 q1232 q320 q1233 np_X6 rfl OB_6 pd_X6_make (Nat.le_of_ble_eq_true rfl) hd1 (okX6_make l E A (d - 1)  (by omega)  e2 am) (hc_rb rfl) rfl (fun am3 ha4 => ?_)
  refine hr_istore_n hC dX7_switching_12 (by decide) ?_
  refine hr_aload_n hC dX7_switching_13 rfl ?_
  obtain ⟨r5, e6, h⟩ := hx_bind h
  by_cases z9 : r5.1 = 0
  · rw [ht_0 z9] at h
    refine hs_callV hC 7 [] _ dX7_switching_14 q1336 q1338 qs17 q321 q1339 np_X7 rfl OB_7 pd_X7_opens (Nat.le_of_ble_eq_true rfl) hd1 (hc_M0 (r := r5) (okX7_opens l E A (d - 1) n (by omega)  e6 am3) z9) (hc_rb rfl) rfl (fun am7 ha8 => ?_)
    refine hr_aload_n hC dX7_switching_17 rfl ?_
    refine hr_gO 6 hC F7_1 rfl dX7_switching_18 q566 ?_
    refine hr_iload_n hC dX7_switching_21 rfl ?_
    refine hr_aload_n hC dX7_switching_22 rfl ?_
    obtain ⟨r10, e11, h⟩ := hx_bind h
    by_cases z14 : r10.1 = 0
    · rw [ht_0 z14] at h
      refine hs_callV hC 7 [] _ dX7_switching_23 q1507 q1509 qs47 q321 q1510 np_X7 rfl OB_7 pd_X7_condition (Nat.le_of_ble_eq_true rfl) hd1 (hc_M0 (r := r10) (okX7_condition l E A (d - 1) n k0 (by omega)  e11 am7) z14) (hc_rb rfl) rfl (fun am12 ha13 => ?_)
      obtain ⟨r15, e16, h⟩ := hx_bind h
      refine hs_callV0 hC 6 [_, _] _ dX7_switching_26 q1412 q1378 q1379 q320 q1380 np_X6 rfl OB_6 pd_X6_hang (Nat.le_of_ble_eq_true rfl) hd1 (okX6_hang l E A (d - 1)  (by omega)  e16 am12) rfl ?_
      refine hr_aload_n hC dX7_switching_29 rfl ?_
      refine hr_bipush (v := 123) hC dX7_switching_30 rfl ?_
      obtain ⟨r19, e20, h⟩ := hx_bind h
      by_cases z23 : r19.1 = 0
      · rw [ht_0 z23] at h
        refine hs_callV hC 7 [_] _ dX7_switching_32 q1263 q1265 qs15 q321 q1266 np_X7 rfl OB_7 pd_X7_bracket (Nat.le_of_ble_eq_true rfl) hd1 (hc_M0 (r := r19) (okX7_bracket l E A (d - 1) n (by omega)  e20 am12) z23) (hc_rb rfl) rfl (fun am21 ha22 => ?_)
        refine hr_aload_n hC dX7_switching_35 rfl ?_
        refine hr_bipush (v := 125) hC dX7_switching_36 rfl ?_
        obtain ⟨r24, e25, h⟩ := hx_bind h
        refine hs_callV0 hC 7 [_] _ dX7_switching_38 q1242 q1244 qs12 q321 q1245 np_X7 rfl OB_7 pd_X7_is (Nat.le_of_ble_eq_true rfl) hd1 (okX7_is l E A (d - 1)  (by omega)  e25 am21) rfl ?_
        obtain ⟨r30, e31, h⟩ := hx_bind h
        have J32 : hc_At hc_V0 E 3 X 67 [(0, .ref (E.2.1 7)), (2, .int r1.1)] [.int r30] r19.2.2 am21 [] := by
          obtain ⟨r46, e47, h⟩ := hx_bind h
          by_cases z50 : r46.1 = 0
          · rw [ht_0 z50] at h
            refine hs_callS0 hC [_] _ dX7_switching_67 q1267 q1268 q321 q1269 np_X7 rfl pd_X7_need (Nat.le_of_ble_eq_true rfl) hd1 (hc_M0 (r := r46) (okX7_need l E A (d - 1)  (by omega)  e47 am21) z50) rfl ?_
            obtain ⟨r66, e67, h⟩ := hx_bind h
            refine hr_sub _ rfl (ll_X7_switching_70 n k0 rec hD hem IH hC n _ _ _ e67 (fun z69 am70 => ?_) (fun z69 => ?_) am21)
            · rw [hu_0 z69] at h
              refine hr_aload_n hC dX7_switching_94 rfl ?_
              refine hr_bipush (v := 125) hC dX7_switching_95 rfl ?_
              obtain ⟨r71, e72, h⟩ := hx_bind h
              by_cases z75 : r71.1 = 0
              · rw [ht_0 z75] at h
                refine hs_callV hC 7 [_] _ dX7_switching_97 q1438 q1440 qs33 q321 q1441 np_X7 rfl OB_7 pd_X7_closes (Nat.le_of_ble_eq_true rfl) hd1 (hc_M0 (r := r71) (okX7_closes l E A (d - 1) n (by omega)  e72 am70) z75) (hc_rb rfl) rfl (fun am73 ha74 => ?_)
                refine hr_aload_n hC dX7_switching_100 rfl ?_
                refine hr_dup hC dX7_switching_101 rfl ?_
                refine hr_gI hC F7_2 dX7_switching_102 q567 ?_
                refine hr_iconst (v := 1) hC dX7_switching_105 rfl ?_
                refine hr_isub hC dX7_switching_106 ?_
                obtain ⟨σ76, hσ76, h⟩ := hl_ok h
                refine hr_pI hC F7_2 PX7_2 dX7_switching_107 q567 ?_
                rw [← hσ76]
                refine hr_iload_n hC dX7_switching_110 rfl ?_
                obtain rfl := Option.some.inj h
                exact hr_iret hC dX7_switching_111
              · rw [ht_1 z75] at h
                obtain rfl := Option.some.inj h
                exact hs_callVx (HX z75) hem 7 [_] _ dX7_switching_97 q1438 q1440 qs33 q321 q1441 np_X7 rfl OB_7 pd_X7_closes (Nat.le_of_ble_eq_true rfl) hd1 (hc_M1 (r := r71) (okX7_closes l E A (d - 1) n (by omega)  e72 am70) z75) (hc_rb rfl) rfl
            · rw [hu_1 z69] at h
              obtain rfl := Option.some.inj h
              exact HX z69
          · rw [ht_1 z50] at h
            obtain rfl := Option.some.inj h
            exact hs_callSx (HX z50) hem [_] _ dX7_switching_67 q1267 q1268 q321 q1269 np_X7 rfl pd_X7_need (Nat.le_of_ble_eq_true rfl) hd1 (hc_M1 (r := r46) (okX7_need l E A (d - 1)  (by omega)  e47 am21) z50) (hc_rb rfl) rfl
        clear h
        have h := e31
        refine hr_if_ne (x := _) hC 62 dX7_switching_41 (by decide) (fun c29 => ?_) (fun c29 => ?_)
        · rw [if_neg c29] at h
          refine hr_iconst (v := 1) hC dX7_switching_62 rfl ?_
          refine hr_goto hC 67 dX7_switching_63 (by decide) ?_
          obtain rfl := Option.some.inj h
          exact hr_sub _ rfl (J32)
        · rw [if_pos c29] at h
          refine hr_aload_n hC dX7_switching_44 rfl ?_
          refine hr_bipush (v := 10) hC dX7_switching_45 rfl ?_
          obtain ⟨r34, e35, h⟩ := hx_bind h
          refine hs_callV0 hC 7 [_] _ dX7_switching_47 q1250 q1252 qs13 q321 q1253 np_X7 rfl OB_7 pd_X7_isWord (Nat.le_of_ble_eq_true rfl) hd1 (okX7_isWord l E A (d - 1)  (by omega)  e35 am21) rfl ?_
          refine hr_if_ne (x := _) hC 62 dX7_switching_50 (by decide) (fun c39 => ?_) (fun c39 => ?_)
          · rw [if_neg c39] at h
            refine hr_iconst (v := 1) hC dX7_switching_62 rfl ?_
            refine hr_goto hC 67 dX7_switching_63 (by decide) ?_
            obtain rfl := Option.some.inj h
            exact hr_sub _ rfl (J32)
          · rw [if_pos c39] at h
            refine hr_aload_n hC dX7_switching_53 rfl ?_
            refine hr_bipush (v := 11) hC dX7_switching_54 rfl ?_
            obtain ⟨r40, e41, h⟩ := hx_bind h
            refine hs_callV0 hC 7 [_] _ dX7_switching_56 q1250 q1252 qs13 q321 q1253 np_X7 rfl OB_7 pd_X7_isWord (Nat.le_of_ble_eq_true rfl) hd1 (okX7_isWord l E A (d - 1)  (by omega)  e41 am21) rfl ?_
            refine hr_if_eq (x := _) hC 66 dX7_switching_59 (by decide) (fun c45 => ?_) (fun c45 => ?_)
            · rw [if_pos c45] at h
              refine hr_iconst (v := 0) hC dX7_switching_66 rfl ?_
              obtain rfl := Option.some.inj h
              exact hr_sub _ rfl (J32)
            · rw [if_neg c45] at h
              refine hr_iconst (v := 1) hC dX7_switching_62 rfl ?_
              refine hr_goto hC 67 dX7_switching_63 (by decide) ?_
              obtain rfl := Option.some.inj h
              exact hr_sub _ rfl (J32)
      · rw [ht_1 z23] at h
        obtain rfl := Option.some.inj h
        exact hs_callVx (HX z23) hem 7 [_] _ dX7_switching_32 q1263 q1265 qs15 q321 q1266 np_X7 rfl OB_7 pd_X7_bracket (Nat.le_of_ble_eq_true rfl) hd1 (hc_M1 (r := r19) (okX7_bracket l E A (d - 1) n (by omega)  e20 am12) z23) (hc_rb rfl) rfl
    · rw [ht_1 z14] at h
      obtain rfl := Option.some.inj h
      exact hs_callVx (HX z14) hem 7 [] _ dX7_switching_23 q1507 q1509 qs47 q321 q1510 np_X7 rfl OB_7 pd_X7_condition (Nat.le_of_ble_eq_true rfl) hd1 (hc_M1 (r := r10) (okX7_condition l E A (d - 1) n k0 (by omega)  e11 am7) z14) (hc_rb rfl) rfl
  · rw [ht_1 z9] at h
    obtain rfl := Option.some.inj h
    exact hs_callVx (HX z9) hem 7 [] _ dX7_switching_14 q1336 q1338 qs17 q321 q1339 np_X7 rfl OB_7 pd_X7_opens (Nat.le_of_ble_eq_true rfl) hd1 (hc_M1 (r := r5) (okX7_opens l E A (d - 1) n (by omega)  e6 am3) z9) (hc_rb rfl) rfl
/-- HomeCompiler$Reader.part()I -/
def bd_X7_part (n : Nat) (k0 : Nat) (rec : Nat → List Int32 → hc_St → Option (Nat × Int32 × hc_St))  (σ : hc_St) : Option (Nat × Int32 × hc_St) := Option.bind (fm_X5_start  σ) fun r1 => Option.bind (fm_X7_takesWord n 10 σ) fun r5 => if r5.1 = 0 then (Option.bind (fm_X7_takesWord n 11 r5.2) fun r11 => if r11.1 = 0 then (Option.bind (rec 1 [] r11.2) fun r17 => ht r17 <| some (0, r17.2.1, r17.2.2)) else (Option.bind (fm_X7_take n 58 r11.2) fun r22 => ht r22 <| Option.bind (fm_X6_make 19 0 0 r1 r22.2.2) fun r27 => some (0, r27.1, r27.2))) else (Option.bind (fm_X6_make 18 0 0 r1 r5.2) fun r31 => Option.bind (fm_X7_constant n k0 r31.2) fun r35 => ht r35 <| Option.bind (fm_X6_hang r31.1 r35.2.1 r35.2.2) fun r40 => Option.bind (fm_X7_take n 58 r40) fun r44 => ht r44 <| some (0, r31.1, r44.2.2))
set_option maxRecDepth 20000 in
set_option maxHeartbeats 4000000 in
theorem okbX7_part (l : Launch) (E : hc_E) (A : Nat → Prop) (d : Nat) {kk : Nat} (n : Nat) (k0 : Nat) (rec : Nat → List Int32 → hc_St → Option (Nat × Int32 × hc_St)) (hD : kk + 1 * k0 + 21 ≤ d) (IH : ∀ (w : Nat) (a : List Int32) (σ : hc_St) (r : (Nat × Int32 × hc_St)), rec w a σ = some r → ∀ am, okg_X7_block l E A (d - 1) am w a σ r)  {σ : hc_St} {r : (Nat × Int32 × hc_St)} (h : bd_X7_part n k0 rec  σ = some r) (am : Nat → Nat → Nat) : hc_M l hc_V0 yX7_part (ws_ yX7_part cX7_part 3 (some .int)) d E A [.ref (E.2.1 7)] am [2, 3, 4, 6, 12, 22] σ (hc_ot (fun v => some (.int v)) r) r.2.2 := by
  have hd1 : 1 ≤ d := by omega
  have hd8 : 9 ≤ d := by omega
  have hd12 : 12 ≤ d := by omega
  refine hc_enter2 (own := RX7) [(0, .ref (E.2.1 7))] pl_X7 rfl hc_V0_st hc_G0_nd rfl (Nat.le_of_ble_eq_true rfl) (fun X hC hem => ?_)
  have HX := fun z => hc_CX hC z
  unfold bd_X7_part at h
  refine hr_aload_n hC dX7_part_0 rfl ?_
  refine hr_gO 5 hC F7_0 rfl dX7_part_1 q565 ?_
  obtain ⟨r1, e2, h⟩ := hx_bind h
  refine hs_callV0 hC 5 [] _ dX7_part_4 q1258 q1259 q1260 q319 q1261 np_X5 rfl OB_5 pd_X5_start (Nat.le_of_ble_eq_true rfl) hd1 (okX5_start l E A (d - 1)  (by omega)  e2 am) rfl ?_
  refine hr_istore_n hC dX7_part_7 (by decide) ?_
  refine hr_aload_n hC dX7_part_8 rfl ?_
  refine hr_bipush (v := 10) hC dX7_part_9 rfl ?_
  obtain ⟨r5, e6, h⟩ := hx_bind h
  refine hs_callV hC 7 [_] _ dX7_part_11 q1454 q1456 qs37 q321 q1457 np_X7 rfl OB_7 pd_X7_takesWord (Nat.le_of_ble_eq_true rfl) hd1 (okX7_takesWord l E A (d - 1) n (by omega)  e6 am) (hc_rb rfl) rfl (fun am7 ha8 => ?_)
  refine hr_if_eq (x := _) hC 50 dX7_part_14 (by decide) (fun c10 => ?_) (fun c10 => ?_)
  · rw [if_pos c10] at h
    refine hr_aload_n hC dX7_part_50 rfl ?_
    refine hr_bipush (v := 11) hC dX7_part_51 rfl ?_
    obtain ⟨r11, e12, h⟩ := hx_bind h
    refine hs_callV hC 7 [_] _ dX7_part_53 q1454 q1456 qs37 q321 q1457 np_X7 rfl OB_7 pd_X7_takesWord (Nat.le_of_ble_eq_true rfl) hd1 (okX7_takesWord l E A (d - 1) n (by omega)  e12 am7) (hc_rb rfl) rfl (fun am13 ha14 => ?_)
    refine hr_if_eq (x := _) hC 78 dX7_part_56 (by decide) (fun c16 => ?_) (fun c16 => ?_)
    · rw [if_pos c16] at h
      refine hr_aload_n hC dX7_part_78 rfl ?_
      obtain ⟨r17, e18, h⟩ := hx_bind h
      by_cases z21 : r17.1 = 0
      · rw [ht_0 z21] at h
        refine hs_callV hC 7 [] _ dX7_part_79 q1470 q1472 qs40 q321 q1473 np_X7 rfl OB_7 pd_X7_statement (Nat.le_of_ble_eq_true rfl) hd1 (hc_M0 (r := r17) (IH _ _ _ _ e18 am13) z21) (hc_rb rfl) rfl (fun am19 ha20 => ?_)
        obtain rfl := Option.some.inj h
        exact hr_iret hC dX7_part_82
      · rw [ht_1 z21] at h
        obtain rfl := Option.some.inj h
        exact hs_callVx (HX z21) hem 7 [] _ dX7_part_79 q1470 q1472 qs40 q321 q1473 np_X7 rfl OB_7 pd_X7_statement (Nat.le_of_ble_eq_true rfl) hd1 (hc_M1 (r := r17) (IH _ _ _ _ e18 am13) z21) (hc_rb rfl) rfl
    · rw [if_neg c16] at h
      refine hr_aload_n hC dX7_part_59 rfl ?_
      refine hr_bipush (v := 58) hC dX7_part_60 rfl ?_
      obtain ⟨r22, e23, h⟩ := hx_bind h
      by_cases z26 : r22.1 = 0
      · rw [ht_0 z26] at h
        refine hs_callV hC 7 [_] _ dX7_part_62 q1434 q1436 qs32 q321 q1437 np_X7 rfl OB_7 pd_X7_take (Nat.le_of_ble_eq_true rfl) hd1 (hc_M0 (r := r22) (okX7_take l E A (d - 1) n (by omega)  e23 am13) z26) (hc_rb rfl) rfl (fun am24 ha25 => ?_)
        refine hr_aload_n hC dX7_part_65 rfl ?_
        refine hr_gO 6 hC F7_1 rfl dX7_part_66 q566 ?_
        refine hr_bipush (v := 19) hC dX7_part_69 rfl ?_
        refine hr_iconst (v := 0) hC dX7_part_71 rfl ?_
        refine hr_iconst (v := 0) hC dX7_part_72 rfl ?_
        refine hr_iload_n hC dX7_part_73 rfl ?_
        obtain ⟨r27, e28, h⟩ := hx_bind h
        refine hs_callV hC 6 [_, _, _, _] _ dX7_part_74 q1230 q1231 q1232 q320 q1233 np_X6 rfl OB_6 pd_X6_make (Nat.le_of_ble_eq_true rfl) hd1 (okX6_make l E A (d - 1)  (by omega)  e28 am24) (hc_rb rfl) rfl (fun am29 ha30 => ?_)
        obtain rfl := Option.some.inj h
        exact hr_iret hC dX7_part_77
      · rw [ht_1 z26] at h
        obtain rfl := Option.some.inj h
        exact hs_callVx (HX z26) hem 7 [_] _ dX7_part_62 q1434 q1436 qs32 q321 q1437 np_X7 rfl OB_7 pd_X7_take (Nat.le_of_ble_eq_true rfl) hd1 (hc_M1 (r := r22) (okX7_take l E A (d - 1) n (by omega)  e23 am13) z26) (hc_rb rfl) rfl
  · rw [if_neg c10] at h
    refine hr_aload_n hC dX7_part_17 rfl ?_
    refine hr_gO 6 hC F7_1 rfl dX7_part_18 q566 ?_
    refine hr_bipush (v := 18) hC dX7_part_21 rfl ?_
    refine hr_iconst (v := 0) hC dX7_part_23 rfl ?_
    refine hr_iconst (v := 0) hC dX7_part_24 rfl ?_
    refine hr_iload_n hC dX7_part_25 rfl ?_
    obtain ⟨r31, e32, h⟩ := hx_bind h
    refine hs_callV hC 6 [_, _, _, _] _ dX7_part_26 q1230 q1231 q1232 q320 q1233 np_X6 rfl OB_6 pd_X6_make (Nat.le_of_ble_eq_true rfl) hd1 (okX6_make l E A (d - 1)  (by omega)  e32 am7) (hc_rb rfl) rfl (fun am33 ha34 => ?_)
    refine hr_istore_n hC dX7_part_29 (by decide) ?_
    refine hr_aload_n hC dX7_part_30 rfl ?_
    refine hr_gO 6 hC F7_1 rfl dX7_part_31 q566 ?_
    refine hr_iload_n hC dX7_part_34 rfl ?_
    refine hr_aload_n hC dX7_part_35 rfl ?_
    obtain ⟨r35, e36, h⟩ := hx_bind h
    by_cases z39 : r35.1 = 0
    · rw [ht_0 z39] at h
      refine hs_callV hC 7 [] _ dX7_part_36 q1352 q1354 qs20 q321 q1355 np_X7 rfl OB_7 pd_X7_constant (Nat.le_of_ble_eq_true rfl) hd1 (hc_M0 (r := r35) (okX7_constant l E A (d - 1) n k0 (by omega)  e36 am33) z39) (hc_rb rfl) rfl (fun am37 ha38 => ?_)
      obtain ⟨r40, e41, h⟩ := hx_bind h
      refine hs_callV0 hC 6 [_, _] _ dX7_part_39 q1412 q1378 q1379 q320 q1380 np_X6 rfl OB_6 pd_X6_hang (Nat.le_of_ble_eq_true rfl) hd1 (okX6_hang l E A (d - 1)  (by omega)  e41 am37) rfl ?_
      refine hr_aload_n hC dX7_part_42 rfl ?_
      refine hr_bipush (v := 58) hC dX7_part_43 rfl ?_
      obtain ⟨r44, e45, h⟩ := hx_bind h
      by_cases z48 : r44.1 = 0
      · rw [ht_0 z48] at h
        refine hs_callV hC 7 [_] _ dX7_part_45 q1434 q1436 qs32 q321 q1437 np_X7 rfl OB_7 pd_X7_take (Nat.le_of_ble_eq_true rfl) hd1 (hc_M0 (r := r44) (okX7_take l E A (d - 1) n (by omega)  e45 am37) z48) (hc_rb rfl) rfl (fun am46 ha47 => ?_)
        refine hr_iload_n hC dX7_part_48 rfl ?_
        obtain rfl := Option.some.inj h
        exact hr_iret hC dX7_part_49
      · rw [ht_1 z48] at h
        obtain rfl := Option.some.inj h
        exact hs_callVx (HX z48) hem 7 [_] _ dX7_part_45 q1434 q1436 qs32 q321 q1437 np_X7 rfl OB_7 pd_X7_take (Nat.le_of_ble_eq_true rfl) hd1 (hc_M1 (r := r44) (okX7_take l E A (d - 1) n (by omega)  e45 am37) z48) (hc_rb rfl) rfl
    · rw [ht_1 z39] at h
      obtain rfl := Option.some.inj h
      exact hs_callVx (HX z39) hem 7 [] _ dX7_part_36 q1352 q1354 qs20 q321 q1355 np_X7 rfl OB_7 pd_X7_constant (Nat.le_of_ble_eq_true rfl) hd1 (hc_M1 (r := r35) (okX7_constant l E A (d - 1) n k0 (by omega)  e36 am33) z39) (hc_rb rfl) rfl
def rc_X7_block (n : Nat) (k0 : Nat) : Nat → Nat → List Int32 → hc_St → Option (Nat × Int32 × hc_St)
  | 0, _, _, _ => none
  | k + 1, w, a, σ => match w with
    | 0 => bd_X7_block n k0 (rc_X7_block n k0 k)  σ
    | 1 => bd_X7_statement n k0 (rc_X7_block n k0 k)  σ
    | 2 => bd_X7_choosing n k0 (rc_X7_block n k0 k) (a.getD 0 0) σ
    | 3 => bd_X7_looping n k0 (rc_X7_block n k0 k) (a.getD 0 0) σ
    | 4 => bd_X7_doing n k0 (rc_X7_block n k0 k) (a.getD 0 0) σ
    | 5 => bd_X7_counting n k0 (rc_X7_block n k0 k) (a.getD 0 0) σ
    | 6 => bd_X7_switching n k0 (rc_X7_block n k0 k) (a.getD 0 0) σ
    | 7 => bd_X7_part n k0 (rc_X7_block n k0 k)  σ
    | _ => none
theorem okr_X7_block (l : Launch) (E : hc_E) (A : Nat → Prop) (n : Nat) (k0 : Nat) : ∀ (k d : Nat), k + 1 * k0 + 21 ≤ d → ∀ (w : Nat) (a : List Int32) (σ : hc_St) (r : (Nat × Int32 × hc_St)), rc_X7_block n k0 k w a σ = some r → ∀ am, okg_X7_block l E A d am w a σ r
  | 0, d, _, w, a, σ, r, h, am => by cases h
  | k + 1, d, hd, w, a, σ, r, h, am => by
    have IH := okr_X7_block l E A n k0 k (d - 1) (by omega)
    match w, h with
    | 0, h => exact okbX7_block l E A d (kk := k) n k0 (rc_X7_block n k0 k) (by omega) IH h am
    | 1, h => exact okbX7_statement l E A d (kk := k) n k0 (rc_X7_block n k0 k) (by omega) IH h am
    | 2, h => exact okbX7_choosing l E A d (kk := k) n k0 (rc_X7_block n k0 k) (by omega) IH h am
    | 3, h => exact okbX7_looping l E A d (kk := k) n k0 (rc_X7_block n k0 k) (by omega) IH h am
    | 4, h => exact okbX7_doing l E A d (kk := k) n k0 (rc_X7_block n k0 k) (by omega) IH h am
    | 5, h => exact okbX7_counting l E A d (kk := k) n k0 (rc_X7_block n k0 k) (by omega) IH h am
    | 6, h => exact okbX7_switching l E A d (kk := k) n k0 (rc_X7_block n k0 k) (by omega) IH h am
    | 7, h => exact okbX7_part l E A d (kk := k) n k0 (rc_X7_block n k0 k) (by omega) IH h am
    | w + 8, h => trivial
def fm_X7_block (n : Nat) (k0 : Nat)  (σ : hc_St) : Option (Nat × Int32 × hc_St) := rc_X7_block n k0 k0 0 [] σ
theorem okX7_block (l : Launch) (E : hc_E) (A : Nat → Prop) (d : Nat) (n : Nat) (k0 : Nat) (hD : k0 + 1 * k0 + 21 ≤ d)   {σ : hc_St} {r : (Nat × Int32 × hc_St)} (h : fm_X7_block n k0  σ = some r) (am : Nat → Nat → Nat) : hc_M l hc_V0 yX7_block (ws_ yX7_block cX7_block 2 (some .int)) d E A [.ref (E.2.1 7)] am [2, 3, 4, 6, 12, 22] σ (hc_ot (fun v => some (.int v)) r) r.2.2 := okr_X7_block l E A n k0 k0 d hD 0 _ _ _ h am
def fm_X7_statement (n : Nat) (k0 : Nat)  (σ : hc_St) : Option (Nat × Int32 × hc_St) := rc_X7_block n k0 k0 1 [] σ
theorem okX7_statement (l : Launch) (E : hc_E) (A : Nat → Prop) (d : Nat) (n : Nat) (k0 : Nat) (hD : k0 + 1 * k0 + 21 ≤ d)   {σ : hc_St} {r : (Nat × Int32 × hc_St)} (h : fm_X7_statement n k0  σ = some r) (am : Nat → Nat → Nat) : hc_M l hc_V0 yX7_statement (ws_ yX7_statement cX7_statement 4 (some .int)) d E A [.ref (E.2.1 7)] am [2, 3, 4, 6, 12, 22] σ (hc_ot (fun v => some (.int v)) r) r.2.2 := okr_X7_block l E A n k0 k0 d hD 1 _ _ _ h am
def fm_X7_choosing (n : Nat) (k0 : Nat) (x1 : Int32) (σ : hc_St) : Option (Nat × Int32 × hc_St) := rc_X7_block n k0 k0 2 [x1] σ
theorem okX7_choosing (l : Launch) (E : hc_E) (A : Nat → Prop) (d : Nat) (n : Nat) (k0 : Nat) (hD : k0 + 1 * k0 + 21 ≤ d)  {x1 : Int32} {σ : hc_St} {r : (Nat × Int32 × hc_St)} (h : fm_X7_choosing n k0 x1 σ = some r) (am : Nat → Nat → Nat) : hc_M l hc_V0 yX7_choosing (ws_ yX7_choosing cX7_choosing 3 (some .int)) d E A [.ref (E.2.1 7), .int x1] am [2, 3, 4, 6, 12, 22] σ (hc_ot (fun v => some (.int v)) r) r.2.2 := okr_X7_block l E A n k0 k0 d hD 2 _ _ _ h am
def fm_X7_looping (n : Nat) (k0 : Nat) (x1 : Int32) (σ : hc_St) : Option (Nat × Int32 × hc_St) := rc_X7_block n k0 k0 3 [x1] σ
theorem okX7_looping (l : Launch) (E : hc_E) (A : Nat → Prop) (d : Nat) (n : Nat) (k0 : Nat) (hD : k0 + 1 * k0 + 21 ≤ d)  {x1 : Int32} {σ : hc_St} {r : (Nat × Int32 × hc_St)} (h : fm_X7_looping n k0 x1 σ = some r) (am : Nat → Nat → Nat) : hc_M l hc_V0 yX7_looping (ws_ yX7_looping cX7_looping 3 (some .int)) d E A [.ref (E.2.1 7), .int x1] am [2, 3, 4, 6, 12, 22] σ (hc_ot (fun v => some (.int v)) r) r.2.2 := okr_X7_block l E A n k0 k0 d hD 3 _ _ _ h am
def fm_X7_doing (n : Nat) (k0 : Nat) (x1 : Int32) (σ : hc_St) : Option (Nat × Int32 × hc_St) := rc_X7_block n k0 k0 4 [x1] σ
theorem okX7_doing (l : Launch) (E : hc_E) (A : Nat → Prop) (d : Nat) (n : Nat) (k0 : Nat) (hD : k0 + 1 * k0 + 21 ≤ d)  {x1 : Int32} {σ : hc_St} {r : (Nat × Int32 × hc_St)} (h : fm_X7_doing n k0 x1 σ = some r) (am : Nat → Nat → Nat) : hc_M l hc_V0 yX7_doing (ws_ yX7_doing cX7_doing 3 (some .int)) d E A [.ref (E.2.1 7), .int x1] am [2, 3, 4, 6, 12, 22] σ (hc_ot (fun v => some (.int v)) r) r.2.2 := okr_X7_block l E A n k0 k0 d hD 4 _ _ _ h am
def fm_X7_counting (n : Nat) (k0 : Nat) (x1 : Int32) (σ : hc_St) : Option (Nat × Int32 × hc_St) := rc_X7_block n k0 k0 5 [x1] σ
theorem okX7_counting (l : Launch) (E : hc_E) (A : Nat → Prop) (d : Nat) (n : Nat) (k0 : Nat) (hD : k0 + 1 * k0 + 21 ≤ d)  {x1 : Int32} {σ : hc_St} {r : (Nat × Int32 × hc_St)} (h : fm_X7_counting n k0 x1 σ = some r) (am : Nat → Nat → Nat) : hc_M l hc_V0 yX7_counting (ws_ yX7_counting cX7_counting 3 (some .int)) d E A [.ref (E.2.1 7), .int x1] am [2, 3, 4, 6, 12, 22] σ (hc_ot (fun v => some (.int v)) r) r.2.2 := okr_X7_block l E A n k0 k0 d hD 5 _ _ _ h am
def fm_X7_switching (n : Nat) (k0 : Nat) (x1 : Int32) (σ : hc_St) : Option (Nat × Int32 × hc_St) := rc_X7_block n k0 k0 6 [x1] σ
theorem okX7_switching (l : Launch) (E : hc_E) (A : Nat → Prop) (d : Nat) (n : Nat) (k0 : Nat) (hD : k0 + 1 * k0 + 21 ≤ d)  {x1 : Int32} {σ : hc_St} {r : (Nat × Int32 × hc_St)} (h : fm_X7_switching n k0 x1 σ = some r) (am : Nat → Nat → Nat) : hc_M l hc_V0 yX7_switching (ws_ yX7_switching cX7_switching 3 (some .int)) d E A [.ref (E.2.1 7), .int x1] am [2, 3, 4, 6, 12, 22] σ (hc_ot (fun v => some (.int v)) r) r.2.2 := okr_X7_block l E A n k0 k0 d hD 6 _ _ _ h am
def fm_X7_part (n : Nat) (k0 : Nat)  (σ : hc_St) : Option (Nat × Int32 × hc_St) := rc_X7_block n k0 k0 7 [] σ
theorem okX7_part (l : Launch) (E : hc_E) (A : Nat → Prop) (d : Nat) (n : Nat) (k0 : Nat) (hD : k0 + 1 * k0 + 21 ≤ d)   {σ : hc_St} {r : (Nat × Int32 × hc_St)} (h : fm_X7_part n k0  σ = some r) (am : Nat → Nat → Nat) : hc_M l hc_V0 yX7_part (ws_ yX7_part cX7_part 3 (some .int)) d E A [.ref (E.2.1 7)] am [2, 3, 4, 6, 12, 22] σ (hc_ot (fun v => some (.int v)) r) r.2.2 := okr_X7_block l E A n k0 k0 d hD 7 _ _ _ h am
def lp_X7_function_49 (n : Nat) (k0 : Nat) : Nat → Int32 → hc_St → Option (Nat × hc_St × Int32)
  | 0, _, _ => none
  | m + 1, y4, σ => Option.bind (fm_X7_takes n 44 σ) fun r35 => if r35.1 = 0 then (some (0, r35.2, 0)) else (Option.bind (fm_X7_parameter n r35.2) fun r41 => hv r41 (0) <| Option.bind (fm_X6_hang y4 r41.2.1 r41.2.2) fun r46 => lp_X7_function_49 n k0 m y4 r46)
/-- HomeCompiler$Reader.function(III)I -/
def fm_X7_function (n : Nat) (k0 : Nat) (x1 : Int32) (x2 : Int32) (x3 : Int32) (σ : hc_St) : Option (Nat × Int32 × hc_St) := Option.bind (fm_X6_make 4 x1 x2 x3 σ) fun r1 => Option.bind (fm_X7_bracket n 40 r1.2) fun r5 => ht r5 <| Option.bind (fm_X7_takesWord n 2 r5.2.2) fun r10 => Option.bind (α := Nat × hc_St × Int32) (if r10.1 = 0 then (Option.bind (fm_X7_is 41 r10.2) fun r20 => if r20 = 0 then (Option.bind (fm_X7_parameter n r10.2) fun r26 => hv r26 (0) <| Option.bind (fm_X6_hang r1.1 r26.2.1 r26.2.2) fun r31 => Option.bind (lp_X7_function_49 n k0 n r1.1 r31) fun r50 => hw r50 (0) <| some (0, r50.2.1, (0 : Int32))) else (some (0, r10.2, (0 : Int32)))) else (some (0, r10.2, (0 : Int32)))) fun r16 => hu r16 <| Option.bind (fm_X7_closes n 41 r16.2.1) fun r56 => ht r56 <| Option.bind (fm_X7_block n k0 r56.2.2) fun r61 => ht r61 <| Option.bind (fm_X6_hang r1.1 r61.2.1 r61.2.2) fun r66 => some (0, r1.1, r66)
set_option maxRecDepth 20000 in
set_option maxHeartbeats 4000000 in
theorem ll_X7_function_49 {l : Launch} {E : hc_E} {A : Nat → Prop} {am : Nat → Nat → Nat} {d : Nat} {X : hc_X} (n : Nat) (k0 : Nat) (hD : 2 * k0 + 22 ≤ d) (hem : X.2.2.2.2.2.2.2.2.2.1.exceptionTable.isEmpty = true) {oc : hc_Oc} {σe : hc_St} (hC : hc_C hc_V0 E cX7_function 5 RX7 (some .int) d oc σe (l, A, am, [2, 3, 4, 6, 12, 22]) X) : ∀ (m : Nat) (σ : hc_St) (y4 : Int32) (rl : Nat × hc_St × Int32), lp_X7_function_49 n k0 m y4 σ = some rl → (rl.1 = 0 → ∀ am1, hc_At hc_V0 E 5 X 74 [(0, .ref (E.2.1 7)), (4, .int y4)] [] rl.2.1 am1 []) → (rl.1 ≠ 0 → hc_C hc_V0 E cX7_function 5 RX7 (some .int) d (.inr rl.1) rl.2.1 (l, A, am, [2, 3, 4, 6, 12, 22]) X) → ∀ am1, hc_At hc_V0 E 5 X 49 [(0, .ref (E.2.1 7)), (4, .int y4)] [] σ am1 [] := by
  have hd1 : 1 ≤ d := by omega
  have hd8 : 9 ≤ d := by omega
  have hd12 : 12 ≤ d := by omega
  intro m
  induction m with
  | zero =>
    intro σ y4 rl h
    cases h
  | succ m ih =>
    intro σ y4 rl h JX HX am1
    rw [lp_X7_function_49] at h
    refine hr_aload_n hC dX7_function_49 rfl ?_
    refine hr_bipush (v := 44) hC dX7_function_50 rfl ?_
    obtain ⟨r35, e36, h⟩ := hx_bind h
    refine hs_callV hC 7 [_] _ dX7_function_52 q1348 q1350 qs19 q321 q1351 np_X7 rfl OB_7 pd_X7_takes (Nat.le_of_ble_eq_true rfl) hd1 (okX7_takes l E A (d - 1) n (by omega)  e36 am1) (hc_rb rfl) rfl (fun am37 ha38 => ?_)
    refine hr_if_eq (x := _) hC 74 dX7_function_55 (by decide) (fun c40 => ?_) (fun c40 => ?_)
    · rw [if_pos c40] at h
      obtain rfl := Option.some.inj h
      exact hr_sub _ rfl (JX rfl am37)
    · rw [if_neg c40] at h
      refine hr_aload_n hC dX7_function_58 rfl ?_
      refine hr_gO 6 hC F7_1 rfl dX7_function_59 q566 ?_
      refine hr_iload hC dX7_function_62 rfl ?_
      refine hr_aload_n hC dX7_function_64 rfl ?_
      obtain ⟨r41, e42, h⟩ := hx_bind h
      by_cases z45 : r41.1 = 0
      · rw [hv_0 z45] at h
        refine hs_callV hC 7 [] _ dX7_function_65 q1458 q1460 qs38 q321 q1461 np_X7 rfl OB_7 pd_X7_parameter (Nat.le_of_ble_eq_true rfl) hd1 (hc_M0 (r := r41) (okX7_parameter l E A (d - 1) n (by omega)  e42 am37) z45) (hc_rb rfl) rfl (fun am43 ha44 => ?_)
        obtain ⟨r46, e47, h⟩ := hx_bind h
        refine hs_callV0 hC 6 [_, _] _ dX7_function_68 q1412 q1378 q1379 q320 q1380 np_X6 rfl OB_6 pd_X6_hang (Nat.le_of_ble_eq_true rfl) hd1 (okX6_hang l E A (d - 1)  (by omega)  e47 am43) rfl ?_
        refine hr_goto hC 49 dX7_function_71 (by decide) ?_
        exact hr_sub _ rfl (ih _ _ _ h JX HX am43)
      · rw [hv_1 z45] at h
        obtain rfl := Option.some.inj h
        exact hs_callVx (HX z45) hem 7 [] _ dX7_function_65 q1458 q1460 qs38 q321 q1461 np_X7 rfl OB_7 pd_X7_parameter (Nat.le_of_ble_eq_true rfl) hd1 (hc_M1 (r := r41) (okX7_parameter l E A (d - 1) n (by omega)  e42 am37) z45) (hc_rb rfl) rfl
set_option maxRecDepth 20000 in
set_option maxHeartbeats 4000000 in
theorem okX7_function (l : Launch) (E : hc_E) (A : Nat → Prop) (d : Nat) (n : Nat) (k0 : Nat) (hD : 2 * k0 + 22 ≤ d) {x1 : Int32} {x2 : Int32} {x3 : Int32} {σ : hc_St} {r : (Nat × Int32 × hc_St)} (h : fm_X7_function n k0 x1 x2 x3 σ = some r) (am : Nat → Nat → Nat) : hc_M l hc_V0 yX7_function (ws_ yX7_function cX7_function 5 (some .int)) d E A [.ref (E.2.1 7), .int x1, .int x2, .int x3] am [2, 3, 4, 6, 12, 22] σ (hc_ot (fun v => some (.int v)) r) r.2.2 := by
  have hd1 : 1 ≤ d := by omega
  have hd8 : 9 ≤ d := by omega
  have hd12 : 12 ≤ d := by omega
  refine hc_enter2 (own := RX7) [(0, .ref (E.2.1 7)), (1, .int x1), (2, .int x2), (3, .int x3)] pl_X7 rfl hc_V0_st hc_G0_nd rfl (Nat.le_of_ble_eq_true rfl) (fun X hC hem => ?_)
  have HX := fun z => hc_CX hC z
  unfold fm_X7_function at h
  refine hr_aload_n hC dX7_function_0 rfl ?_
  refine hr_gO 6 hC F7_1 rfl dX7_function_1 q566 ?_
  refine hr_iconst (v := 4) hC dX7_function_4 rfl ?_
  refine hr_iload_n hC dX7_function_5 rfl ?_
  refine hr_iload_n hC dX7_function_6 rfl ?_
  refine hr_iload_n hC dX7_function_7 rfl ?_
  obtain ⟨r1, e2, h⟩ := hx_bind h
  refine hs_callV hC 6 [_, _, _, _] _ dX7_function_8 q1230 q1231 q1232 q320 q1233 np_X6 rfl OB_6 pd_X6_make (Nat.le_of_ble_eq_true rfl) hd1 (okX6_make l E A (d - 1)  (by omega)  e2 am) (hc_rb rfl) rfl (fun am3 ha4 => ?_)
  refine hr_istore hC dX7_function_11 (by decide) ?_
  refine hr_aload_n hC dX7_function_13 rfl ?_
  refine hr_bipush (v := 40) hC dX7_function_14 rfl ?_
  obtain ⟨r5, e6, h⟩ := hx_bind h
  by_cases z9 : r5.1 = 0
  · rw [ht_0 z9] at h
    refine hs_callV hC 7 [_] _ dX7_function_16 q1263 q1265 qs15 q321 q1266 np_X7 rfl OB_7 pd_X7_bracket (Nat.le_of_ble_eq_true rfl) hd1 (hc_M0 (r := r5) (okX7_bracket l E A (d - 1) n (by omega)  e6 am3) z9) (hc_rb rfl) rfl (fun am7 ha8 => ?_)
    refine hr_aload_n hC dX7_function_19 rfl ?_
    refine hr_iconst (v := 2) hC dX7_function_20 rfl ?_
    obtain ⟨r10, e11, h⟩ := hx_bind h
    refine hs_callV hC 7 [_] _ dX7_function_21 q1454 q1456 qs37 q321 q1457 np_X7 rfl OB_7 pd_X7_takesWord (Nat.le_of_ble_eq_true rfl) hd1 (okX7_takesWord l E A (d - 1) n (by omega)  e11 am7) (hc_rb rfl) rfl (fun am12 ha13 => ?_)
    obtain ⟨r16, e17, h⟩ := hx_bind h
    have J18 : r16.1 = 0 → ∀ am55, hc_At hc_V0 E 5 X 74 [(0, .ref (E.2.1 7)), (4, .int r1.1)] [] r16.2.1 am55 [] := by
      intro z19 am55
      rw [hu_0 z19] at h
      refine hr_aload_n hC dX7_function_74 rfl ?_
      refine hr_bipush (v := 41) hC dX7_function_75 rfl ?_
      obtain ⟨r56, e57, h⟩ := hx_bind h
      by_cases z60 : r56.1 = 0
      · rw [ht_0 z60] at h
        refine hs_callV hC 7 [_] _ dX7_function_77 q1438 q1440 qs33 q321 q1441 np_X7 rfl OB_7 pd_X7_closes (Nat.le_of_ble_eq_true rfl) hd1 (hc_M0 (r := r56) (okX7_closes l E A (d - 1) n (by omega)  e57 am55) z60) (hc_rb rfl) rfl (fun am58 ha59 => ?_)
        refine hr_aload_n hC dX7_function_80 rfl ?_
        refine hr_gO 6 hC F7_1 rfl dX7_function_81 q566 ?_
        refine hr_iload hC dX7_function_84 rfl ?_
        refine hr_aload_n hC dX7_function_86 rfl ?_
        obtain ⟨r61, e62, h⟩ := hx_bind h
        by_cases z65 : r61.1 = 0
        · rw [ht_0 z65] at h
          refine hs_callV hC 7 [] _ dX7_function_87 q1466 q1468 qs39 q321 q1469 np_X7 rfl OB_7 pd_X7_block (Nat.le_of_ble_eq_true rfl) hd1 (hc_M0 (r := r61) (okX7_block l E A (d - 1) n k0 (by omega)  e62 am58) z65) (hc_rb rfl) rfl (fun am63 ha64 => ?_)
          obtain ⟨r66, e67, h⟩ := hx_bind h
          refine hs_callV0 hC 6 [_, _] _ dX7_function_90 q1412 q1378 q1379 q320 q1380 np_X6 rfl OB_6 pd_X6_hang (Nat.le_of_ble_eq_true rfl) hd1 (okX6_hang l E A (d - 1)  (by omega)  e67 am63) rfl ?_
          refine hr_iload hC dX7_function_93 rfl ?_
          obtain rfl := Option.some.inj h
          exact hr_iret hC dX7_function_95
        · rw [ht_1 z65] at h
          obtain rfl := Option.some.inj h
          exact hs_callVx (HX z65) hem 7 [] _ dX7_function_87 q1466 q1468 qs39 q321 q1469 np_X7 rfl OB_7 pd_X7_block (Nat.le_of_ble_eq_true rfl) hd1 (hc_M1 (r := r61) (okX7_block l E A (d - 1) n k0 (by omega)  e62 am58) z65) (hc_rb rfl) rfl
      · rw [ht_1 z60] at h
        obtain rfl := Option.some.inj h
        exact hs_callVx (HX z60) hem 7 [_] _ dX7_function_77 q1438 q1440 qs33 q321 q1441 np_X7 rfl OB_7 pd_X7_closes (Nat.le_of_ble_eq_true rfl) hd1 (hc_M1 (r := r56) (okX7_closes l E A (d - 1) n (by omega)  e57 am55) z60) (hc_rb rfl) rfl
    have HX : r16.1 ≠ 0 → hc_C hc_V0 E cX7_function 5 RX7 (some .int) d (.inr r16.1) r16.2.1 (l, A, am, [2, 3, 4, 6, 12, 22]) X := by
      intro z19
      rw [hu_1 z19] at h
      obtain rfl := Option.some.inj h
      exact HX z19
    clear h
    have h := e17
    refine hr_if_ne (x := _) hC 74 dX7_function_24 (by decide) (fun c15 => ?_) (fun c15 => ?_)
    · rw [if_neg c15] at h
      obtain rfl := Option.some.inj h
      exact hr_sub _ rfl (J18 rfl am12)
    · rw [if_pos c15] at h
      refine hr_aload_n hC dX7_function_27 rfl ?_
      refine hr_bipush (v := 41) hC dX7_function_28 rfl ?_
      obtain ⟨r20, e21, h⟩ := hx_bind h
      refine hs_callV0 hC 7 [_] _ dX7_function_30 q1242 q1244 qs12 q321 q1245 np_X7 rfl OB_7 pd_X7_is (Nat.le_of_ble_eq_true rfl) hd1 (okX7_is l E A (d - 1)  (by omega)  e21 am12) rfl ?_
      refine hr_if_ne (x := _) hC 74 dX7_function_33 (by decide) (fun c25 => ?_) (fun c25 => ?_)
      · rw [if_neg c25] at h
        obtain rfl := Option.some.inj h
        exact hr_sub _ rfl (J18 rfl am12)
      · rw [if_pos c25] at h
        refine hr_aload_n hC dX7_function_36 rfl ?_
        refine hr_gO 6 hC F7_1 rfl dX7_function_37 q566 ?_
        refine hr_iload hC dX7_function_40 rfl ?_
        refine hr_aload_n hC dX7_function_42 rfl ?_
        obtain ⟨r26, e27, h⟩ := hx_bind h
        by_cases z30 : r26.1 = 0
        · rw [hv_0 z30] at h
          refine hs_callV hC 7 [] _ dX7_function_43 q1458 q1460 qs38 q321 q1461 np_X7 rfl OB_7 pd_X7_parameter (Nat.le_of_ble_eq_true rfl) hd1 (hc_M0 (r := r26) (okX7_parameter l E A (d - 1) n (by omega)  e27 am12) z30) (hc_rb rfl) rfl (fun am28 ha29 => ?_)
          obtain ⟨r31, e32, h⟩ := hx_bind h
          refine hs_callV0 hC 6 [_, _] _ dX7_function_46 q1412 q1378 q1379 q320 q1380 np_X6 rfl OB_6 pd_X6_hang (Nat.le_of_ble_eq_true rfl) hd1 (okX6_hang l E A (d - 1)  (by omega)  e32 am28) rfl ?_
          obtain ⟨r50, e51, h⟩ := hx_bind h
          refine hr_sub _ rfl (ll_X7_function_49 n k0 hD hem hC n _ _ _ e51 (fun z53 am54 => ?_) (fun z53 => ?_) am28)
          · rw [hw_0 z53] at h
            obtain rfl := Option.some.inj h
            exact hr_sub _ rfl (J18 rfl am54)
          · rw [hw_1 z53] at h
            obtain rfl := Option.some.inj h
            exact HX z53
        · rw [hv_1 z30] at h
          obtain rfl := Option.some.inj h
          exact hs_callVx (HX z30) hem 7 [] _ dX7_function_43 q1458 q1460 qs38 q321 q1461 np_X7 rfl OB_7 pd_X7_parameter (Nat.le_of_ble_eq_true rfl) hd1 (hc_M1 (r := r26) (okX7_parameter l E A (d - 1) n (by omega)  e27 am12) z30) (hc_rb rfl) rfl
  · rw [ht_1 z9] at h
    obtain rfl := Option.some.inj h
    exact hs_callVx (HX z9) hem 7 [_] _ dX7_function_16 q1263 q1265 qs15 q321 q1266 np_X7 rfl OB_7 pd_X7_bracket (Nat.le_of_ble_eq_true rfl) hd1 (hc_M1 (r := r5) (okX7_bracket l E A (d - 1) n (by omega)  e6 am3) z9) (hc_rb rfl) rfl
def lp_X7_declaration_100 (n : Nat) (k0 : Nat) : Nat → Int32 → hc_St → Option (Nat × hc_St × Int32)
  | 0, _, _ => none
  | m + 1, y4, σ => Option.bind (fm_X7_takes n 44 σ) fun r52 => if r52.1 = 0 then (some (0, r52.2, 0)) else (Option.bind (fm_X5_start  r52.2) fun r58 => Option.bind (fm_X7_name n r52.2) fun r62 => hv r62 (0) <| Option.bind (fm_X7_variable n k0 r62.2.1 r58 r62.2.2) fun r67 => hv r67 (0) <| Option.bind (fm_X6_hang y4 r67.2.1 r67.2.2) fun r72 => lp_X7_declaration_100 n k0 m y4 r72)
/-- HomeCompiler$Reader.declaration()I -/
def fm_X7_declaration (n : Nat) (k0 : Nat)  (σ : hc_St) : Option (Nat × Int32 × hc_St) := Option.bind (fm_X5_token  σ) fun r1 => hl (α := Int32) ((if (r1 - 200) < 0 then 0 else (if 2 < (r1 - 200) then 0 else 1))) fun v7 => Option.bind (fm_X7_need v7 σ) fun r8 => ht r8 <| Option.bind (fm_X5_next n r8.2.2) fun r13 => Option.bind (fm_X5_start  r13) fun r17 => Option.bind (fm_X7_name n r13) fun r21 => ht r21 <| if (r1 - 200) = 2 then (Option.bind (fm_X7_function n k0 ((r1 - 200)) r21.2.1 r17 r21.2.2) fun r28 => ht r28 <| some (0, r28.2.1, r28.2.2)) else (Option.bind (fm_X7_is 40 r21.2.2) fun r33 => if r33 = 0 then (Option.bind (fm_X6_make 6 ((r1 - 200)) 0 r17 r21.2.2) fun r39 => Option.bind (fm_X7_variable n k0 r21.2.1 r17 r39.2) fun r43 => ht r43 <| Option.bind (fm_X6_hang r39.1 r43.2.1 r43.2.2) fun r48 => Option.bind (lp_X7_declaration_100 n k0 n r39.1 r48) fun r76 => hu r76 <| Option.bind (fm_X7_take n 59 r76.2.1) fun r81 => ht r81 <| some (0, r39.1, r81.2.2)) else (Option.bind (fm_X7_function n k0 ((r1 - 200)) r21.2.1 r17 r21.2.2) fun r86 => ht r86 <| some (0, r86.2.1, r86.2.2)))
set_option maxRecDepth 20000 in
set_option maxHeartbeats 4000000 in
theorem ll_X7_declaration_100 {l : Launch} {E : hc_E} {A : Nat → Prop} {am : Nat → Nat → Nat} {d : Nat} {X : hc_X} (n : Nat) (k0 : Nat) (hD : 2 * k0 + 23 ≤ d) (hem : X.2.2.2.2.2.2.2.2.2.1.exceptionTable.isEmpty = true) {oc : hc_Oc} {σe : hc_St} (hC : hc_C hc_V0 E cX7_declaration 7 RX7 (some .int) d oc σe (l, A, am, [2, 3, 4, 6, 12, 22]) X) : ∀ (m : Nat) (σ : hc_St) (y4 : Int32) (rl : Nat × hc_St × Int32), lp_X7_declaration_100 n k0 m y4 σ = some rl → (rl.1 = 0 → ∀ am1, hc_At hc_V0 E 7 X 144 [(0, .ref (E.2.1 7)), (4, .int y4)] [] rl.2.1 am1 []) → (rl.1 ≠ 0 → hc_C hc_V0 E cX7_declaration 7 RX7 (some .int) d (.inr rl.1) rl.2.1 (l, A, am, [2, 3, 4, 6, 12, 22]) X) → ∀ am1, hc_At hc_V0 E 7 X 100 [(0, .ref (E.2.1 7)), (4, .int y4)] [] σ am1 [] := by
  have hd1 : 1 ≤ d := by omega
  have hd8 : 9 ≤ d := by omega
  have hd12 : 12 ≤ d := by omega
  intro m
  induction m with
  | zero =>
    intro σ y4 rl h
    cases h
  | succ m ih =>
    intro σ y4 rl h JX HX am1
    rw [lp_X7_declaration_100] at h
    refine hr_aload_n hC dX7_declaration_100 rfl ?_
    refine hr_bipush (v := 44) hC dX7_declaration_101 rfl ?_
    obtain ⟨r52, e53, h⟩ := hx_bind h
    refine hs_callV hC 7 [_] _ dX7_declaration_103 q1348 q1350 qs19 q321 q1351 np_X7 rfl OB_7 pd_X7_takes (Nat.le_of_ble_eq_true rfl) hd1 (okX7_takes l E A (d - 1) n (by omega)  e53 am1) (hc_rb rfl) rfl (fun am54 ha55 => ?_)
    refine hr_if_eq (x := _) hC 144 dX7_declaration_106 (by decide) (fun c57 => ?_) (fun c57 => ?_)
    · rw [if_pos c57] at h
      obtain rfl := Option.some.inj h
      exact hr_sub _ rfl (JX rfl am54)
    · rw [if_neg c57] at h
      refine hr_aload_n hC dX7_declaration_109 rfl ?_
      refine hr_gO 5 hC F7_0 rfl dX7_declaration_110 q565 ?_
      obtain ⟨r58, e59, h⟩ := hx_bind h
      refine hs_callV0 hC 5 [] _ dX7_declaration_113 q1258 q1259 q1260 q319 q1261 np_X5 rfl OB_5 pd_X5_start (Nat.le_of_ble_eq_true rfl) hd1 (okX5_start l E A (d - 1)  (by omega)  e59 am54) rfl ?_
      refine hr_istore hC dX7_declaration_116 (by decide) ?_
      refine hr_aload_n hC dX7_declaration_118 rfl ?_
      obtain ⟨r62, e63, h⟩ := hx_bind h
      by_cases z66 : r62.1 = 0
      · rw [hv_0 z66] at h
        refine hs_callV hC 7 [] _ dX7_declaration_119 q1340 q1342 qs18 q321 q1343 np_X7 rfl OB_7 pd_X7_name (Nat.le_of_ble_eq_true rfl) hd1 (hc_M0 (r := r62) (okX7_name l E A (d - 1) n (by omega)  e63 am54) z66) (hc_rb rfl) rfl (fun am64 ha65 => ?_)
        refine hr_istore hC dX7_declaration_122 (by decide) ?_
        refine hr_aload_n hC dX7_declaration_124 rfl ?_
        refine hr_gO 6 hC F7_1 rfl dX7_declaration_125 q566 ?_
        refine hr_iload hC dX7_declaration_128 rfl ?_
        refine hr_aload_n hC dX7_declaration_130 rfl ?_
        refine hr_iload hC dX7_declaration_131 rfl ?_
        refine hr_iload hC dX7_declaration_133 rfl ?_
        obtain ⟨r67, e68, h⟩ := hx_bind h
        by_cases z71 : r67.1 = 0
        · rw [hv_0 z71] at h
          refine hs_callV hC 7 [_, _] _ dX7_declaration_135 q1482 q1484 qs43 q321 q1485 np_X7 rfl OB_7 pd_X7_variable (Nat.le_of_ble_eq_true rfl) hd1 (hc_M0 (r := r67) (okX7_variable l E A (d - 1) n k0 (by omega)  e68 am64) z71) (hc_rb rfl) rfl (fun am69 ha70 => ?_)
          obtain ⟨r72, e73, h⟩ := hx_bind h
          refine hs_callV0 hC 6 [_, _] _ dX7_declaration_138 q1412 q1378 q1379 q320 q1380 np_X6 rfl OB_6 pd_X6_hang (Nat.le_of_ble_eq_true rfl) hd1 (okX6_hang l E A (d - 1)  (by omega)  e73 am69) rfl ?_
          refine hr_goto hC 100 dX7_declaration_141 (by decide) ?_
          exact hr_sub _ rfl (ih _ _ _ h JX HX am69)
        · rw [hv_1 z71] at h
          obtain rfl := Option.some.inj h
          exact hs_callVx (HX z71) hem 7 [_, _] _ dX7_declaration_135 q1482 q1484 qs43 q321 q1485 np_X7 rfl OB_7 pd_X7_variable (Nat.le_of_ble_eq_true rfl) hd1 (hc_M1 (r := r67) (okX7_variable l E A (d - 1) n k0 (by omega)  e68 am64) z71) (hc_rb rfl) rfl
      · rw [hv_1 z66] at h
        obtain rfl := Option.some.inj h
        exact hs_callVx (HX z66) hem 7 [] _ dX7_declaration_119 q1340 q1342 qs18 q321 q1343 np_X7 rfl OB_7 pd_X7_name (Nat.le_of_ble_eq_true rfl) hd1 (hc_M1 (r := r62) (okX7_name l E A (d - 1) n (by omega)  e63 am54) z66) (hc_rb rfl) rfl
set_option maxRecDepth 20000 in
set_option maxHeartbeats 4000000 in
theorem okX7_declaration (l : Launch) (E : hc_E) (A : Nat → Prop) (d : Nat) (n : Nat) (k0 : Nat) (hD : 2 * k0 + 23 ≤ d)  {σ : hc_St} {r : (Nat × Int32 × hc_St)} (h : fm_X7_declaration n k0  σ = some r) (am : Nat → Nat → Nat) : hc_M l hc_V0 yX7_declaration (ws_ yX7_declaration cX7_declaration 7 (some .int)) d E A [.ref (E.2.1 7)] am [2, 3, 4, 6, 12, 22] σ (hc_ot (fun v => some (.int v)) r) r.2.2 := by
  have hd1 : 1 ≤ d := by omega
  have hd8 : 9 ≤ d := by omega
  have hd12 : 12 ≤ d := by omega
  refine hc_enter2 (own := RX7) [(0, .ref (E.2.1 7))] pl_X7 rfl hc_V0_st hc_G0_nd rfl (Nat.le_of_ble_eq_true rfl) (fun X hC hem => ?_)
  have HX := fun z => hc_CX hC z
  unfold fm_X7_declaration at h
  refine hr_aload_n hC dX7_declaration_0 rfl ?_
  refine hr_gO 5 hC F7_0 rfl dX7_declaration_1 q565 ?_
  obtain ⟨r1, e2, h⟩ := hx_bind h
  refine hs_callV0 hC 5 [] _ dX7_declaration_4 q1246 q1247 q1248 q319 q1249 np_X5 rfl OB_5 pd_X5_token (Nat.le_of_ble_eq_true rfl) hd1 (okX5_token l E A (d - 1)  (by omega)  e2 am) rfl ?_
  refine hr_sipush (v := 200) hC dX7_declaration_7 rfl ?_
  refine hr_isub hC dX7_declaration_10 ?_
  refine hr_istore_n hC dX7_declaration_11 (by decide) ?_
  refine hr_iload_n hC dX7_declaration_12 rfl ?_
  obtain ⟨v7, hv7, h⟩ := hl_ok h
  have J91 : ∀ w92 : Int32, (if (r1 - 200) < 0 then 0 else (if 2 < (r1 - 200) then 0 else 1)) = w92 → hc_At hc_V0 E 7 X 26 [(0, .ref (E.2.1 7)), (1, .int (r1 - 200))] [.int w92] σ am [] := by
    intro w92 hw92
    obtain rfl := hv7.trans hw92
    obtain ⟨r8, e9, h⟩ := hx_bind h
    by_cases z12 : r8.1 = 0
    · rw [ht_0 z12] at h
      refine hs_callS0 hC [_] _ dX7_declaration_26 q1267 q1268 q321 q1269 np_X7 rfl pd_X7_need (Nat.le_of_ble_eq_true rfl) hd1 (hc_M0 (r := r8) (okX7_need l E A (d - 1)  (by omega)  e9 am) z12) rfl ?_
      refine hr_aload_n hC dX7_declaration_29 rfl ?_
      refine hr_gO 5 hC F7_0 rfl dX7_declaration_30 q565 ?_
      obtain ⟨r13, e14, h⟩ := hx_bind h
      refine hs_callV hC 5 [] _ dX7_declaration_33 q1262 q1076 q1077 q319 q1078 np_X5 rfl OB_5 pd_X5_next (Nat.le_of_ble_eq_true rfl) hd1 (okX5_next l E A (d - 1) n (by omega)  e14 am) (hc_rb rfl) rfl (fun am15 ha16 => ?_)
      refine hr_aload_n hC dX7_declaration_36 rfl ?_
      refine hr_gO 5 hC F7_0 rfl dX7_declaration_37 q565 ?_
      obtain ⟨r17, e18, h⟩ := hx_bind h
      refine hs_callV0 hC 5 [] _ dX7_declaration_40 q1258 q1259 q1260 q319 q1261 np_X5 rfl OB_5 pd_X5_start (Nat.le_of_ble_eq_true rfl) hd1 (okX5_start l E A (d - 1)  (by omega)  e18 am15) rfl ?_
      refine hr_istore_n hC dX7_declaration_43 (by decide) ?_
      refine hr_aload_n hC dX7_declaration_44 rfl ?_
      obtain ⟨r21, e22, h⟩ := hx_bind h
      by_cases z25 : r21.1 = 0
      · rw [ht_0 z25] at h
        refine hs_callV hC 7 [] _ dX7_declaration_45 q1340 q1342 qs18 q321 q1343 np_X7 rfl OB_7 pd_X7_name (Nat.le_of_ble_eq_true rfl) hd1 (hc_M0 (r := r21) (okX7_name l E A (d - 1) n (by omega)  e22 am15) z25) (hc_rb rfl) rfl (fun am23 ha24 => ?_)
        refine hr_istore_n hC dX7_declaration_48 (by decide) ?_
        refine hr_iload_n hC dX7_declaration_49 rfl ?_
        refine hr_iconst (v := 2) hC dX7_declaration_50 rfl ?_
        refine hr_icmp_eq (x := _) hC 63 dX7_declaration_51 (by decide) (fun c27 => ?_) (fun c27 => ?_)
        · rw [if_pos c27] at h
          refine hr_aload_n hC dX7_declaration_63 rfl ?_
          refine hr_iload_n hC dX7_declaration_64 rfl ?_
          refine hr_iload_n hC dX7_declaration_65 rfl ?_
          refine hr_iload_n hC dX7_declaration_66 rfl ?_
          obtain ⟨r28, e29, h⟩ := hx_bind h
          by_cases z32 : r28.1 = 0
          · rw [ht_0 z32] at h
            refine hs_callV hC 7 [_, _, _] _ dX7_declaration_67 q1450 q1452 qs36 q321 q1453 np_X7 rfl OB_7 pd_X7_function (Nat.le_of_ble_eq_true rfl) hd1 (hc_M0 (r := r28) (okX7_function l E A (d - 1) n k0 (by omega)  e29 am23) z32) (hc_rb rfl) rfl (fun am30 ha31 => ?_)
            obtain rfl := Option.some.inj h
            exact hr_iret hC dX7_declaration_70
          · rw [ht_1 z32] at h
            obtain rfl := Option.some.inj h
            exact hs_callVx (HX z32) hem 7 [_, _, _] _ dX7_declaration_67 q1450 q1452 qs36 q321 q1453 np_X7 rfl OB_7 pd_X7_function (Nat.le_of_ble_eq_true rfl) hd1 (hc_M1 (r := r28) (okX7_function l E A (d - 1) n k0 (by omega)  e29 am23) z32) (hc_rb rfl) rfl
        · rw [if_neg c27] at h
          refine hr_aload_n hC dX7_declaration_54 rfl ?_
          refine hr_bipush (v := 40) hC dX7_declaration_55 rfl ?_
          obtain ⟨r33, e34, h⟩ := hx_bind h
          refine hs_callV0 hC 7 [_] _ dX7_declaration_57 q1242 q1244 qs12 q321 q1245 np_X7 rfl OB_7 pd_X7_is (Nat.le_of_ble_eq_true rfl) hd1 (okX7_is l E A (d - 1)  (by omega)  e34 am23) rfl ?_
          refine hr_if_eq (x := _) hC 71 dX7_declaration_60 (by decide) (fun c38 => ?_) (fun c38 => ?_)
          · rw [if_pos c38] at h
            refine hr_aload_n hC dX7_declaration_71 rfl ?_
            refine hr_gO 6 hC F7_1 rfl dX7_declaration_72 q566 ?_
            refine hr_bipush (v := 6) hC dX7_declaration_75 rfl ?_
            refine hr_iload_n hC dX7_declaration_77 rfl ?_
            refine hr_iconst (v := 0) hC dX7_declaration_78 rfl ?_
            refine hr_iload_n hC dX7_declaration_79 rfl ?_
            obtain ⟨r39, e40, h⟩ := hx_bind h
            refine hs_callV hC 6 [_, _, _, _] _ dX7_declaration_80 q1230 q1231 q1232 q320 q1233 np_X6 rfl OB_6 pd_X6_make (Nat.le_of_ble_eq_true rfl) hd1 (okX6_make l E A (d - 1)  (by omega)  e40 am23) (hc_rb rfl) rfl (fun am41 ha42 => ?_)
            refine hr_istore hC dX7_declaration_83 (by decide) ?_
            refine hr_aload_n hC dX7_declaration_85 rfl ?_
            refine hr_gO 6 hC F7_1 rfl dX7_declaration_86 q566 ?_
            refine hr_iload hC dX7_declaration_89 rfl ?_
            refine hr_aload_n hC dX7_declaration_91 rfl ?_
            refine hr_iload_n hC dX7_declaration_92 rfl ?_
            refine hr_iload_n hC dX7_declaration_93 rfl ?_
            obtain ⟨r43, e44, h⟩ := hx_bind h
            by_cases z47 : r43.1 = 0
            · rw [ht_0 z47] at h
              refine hs_callV hC 7 [_, _] _ dX7_declaration_94 q1482 q1484 qs43 q321 q1485 np_X7 rfl OB_7 pd_X7_variable (Nat.le_of_ble_eq_true rfl) hd1 (hc_M0 (r := r43) (okX7_variable l E A (d - 1) n k0 (by omega)  e44 am41) z47) (hc_rb rfl) rfl (fun am45 ha46 => ?_)
              obtain ⟨r48, e49, h⟩ := hx_bind h
              refine hs_callV0 hC 6 [_, _] _ dX7_declaration_97 q1412 q1378 q1379 q320 q1380 np_X6 rfl OB_6 pd_X6_hang (Nat.le_of_ble_eq_true rfl) hd1 (okX6_hang l E A (d - 1)  (by omega)  e49 am45) rfl ?_
              obtain ⟨r76, e77, h⟩ := hx_bind h
              refine hr_sub _ rfl (ll_X7_declaration_100 n k0 hD hem hC n _ _ _ e77 (fun z79 am80 => ?_) (fun z79 => ?_) am45)
              · rw [hu_0 z79] at h
                refine hr_aload_n hC dX7_declaration_144 rfl ?_
                refine hr_bipush (v := 59) hC dX7_declaration_145 rfl ?_
                obtain ⟨r81, e82, h⟩ := hx_bind h
                by_cases z85 : r81.1 = 0
                · rw [ht_0 z85] at h
                  refine hs_callV hC 7 [_] _ dX7_declaration_147 q1434 q1436 qs32 q321 q1437 np_X7 rfl OB_7 pd_X7_take (Nat.le_of_ble_eq_true rfl) hd1 (hc_M0 (r := r81) (okX7_take l E A (d - 1) n (by omega)  e82 am80) z85) (hc_rb rfl) rfl (fun am83 ha84 => ?_)
                  refine hr_iload hC dX7_declaration_150 rfl ?_
                  obtain rfl := Option.some.inj h
                  exact hr_iret hC dX7_declaration_152
                · rw [ht_1 z85] at h
                  obtain rfl := Option.some.inj h
                  exact hs_callVx (HX z85) hem 7 [_] _ dX7_declaration_147 q1434 q1436 qs32 q321 q1437 np_X7 rfl OB_7 pd_X7_take (Nat.le_of_ble_eq_true rfl) hd1 (hc_M1 (r := r81) (okX7_take l E A (d - 1) n (by omega)  e82 am80) z85) (hc_rb rfl) rfl
              · rw [hu_1 z79] at h
                obtain rfl := Option.some.inj h
                exact HX z79
            · rw [ht_1 z47] at h
              obtain rfl := Option.some.inj h
              exact hs_callVx (HX z47) hem 7 [_, _] _ dX7_declaration_94 q1482 q1484 qs43 q321 q1485 np_X7 rfl OB_7 pd_X7_variable (Nat.le_of_ble_eq_true rfl) hd1 (hc_M1 (r := r43) (okX7_variable l E A (d - 1) n k0 (by omega)  e44 am41) z47) (hc_rb rfl) rfl
          · rw [if_neg c38] at h
            refine hr_aload_n hC dX7_declaration_63 rfl ?_
            refine hr_iload_n hC dX7_declaration_64 rfl ?_
            refine hr_iload_n hC dX7_declaration_65 rfl ?_
            refine hr_iload_n hC dX7_declaration_66 rfl ?_
            obtain ⟨r86, e87, h⟩ := hx_bind h
            by_cases z90 : r86.1 = 0
            · rw [ht_0 z90] at h
              refine hs_callV hC 7 [_, _, _] _ dX7_declaration_67 q1450 q1452 qs36 q321 q1453 np_X7 rfl OB_7 pd_X7_function (Nat.le_of_ble_eq_true rfl) hd1 (hc_M0 (r := r86) (okX7_function l E A (d - 1) n k0 (by omega)  e87 am23) z90) (hc_rb rfl) rfl (fun am88 ha89 => ?_)
              obtain rfl := Option.some.inj h
              exact hr_iret hC dX7_declaration_70
            · rw [ht_1 z90] at h
              obtain rfl := Option.some.inj h
              exact hs_callVx (HX z90) hem 7 [_, _, _] _ dX7_declaration_67 q1450 q1452 qs36 q321 q1453 np_X7 rfl OB_7 pd_X7_function (Nat.le_of_ble_eq_true rfl) hd1 (hc_M1 (r := r86) (okX7_function l E A (d - 1) n k0 (by omega)  e87 am23) z90) (hc_rb rfl) rfl
      · rw [ht_1 z25] at h
        obtain rfl := Option.some.inj h
        exact hs_callVx (HX z25) hem 7 [] _ dX7_declaration_45 q1340 q1342 qs18 q321 q1343 np_X7 rfl OB_7 pd_X7_name (Nat.le_of_ble_eq_true rfl) hd1 (hc_M1 (r := r21) (okX7_name l E A (d - 1) n (by omega)  e22 am15) z25) (hc_rb rfl) rfl
    · rw [ht_1 z12] at h
      obtain rfl := Option.some.inj h
      exact hs_callSx (HX z12) hem [_] _ dX7_declaration_26 q1267 q1268 q321 q1269 np_X7 rfl pd_X7_need (Nat.le_of_ble_eq_true rfl) hd1 (hc_M1 (r := r8) (okX7_need l E A (d - 1)  (by omega)  e9 am) z12) (hc_rb rfl) rfl
  refine hr_if_lt (x := _) hC 25 dX7_declaration_13 (by decide) (fun c93 => ?_) (fun c93 => ?_)
  · refine hr_iconst (v := 0) hC dX7_declaration_25 rfl ?_
    exact hr_sub _ rfl (J91 _ (by first | (rw [if_pos c93]; done) | (simp only [if_pos c93]; done) | rfl))
  · refine hr_iload_n hC dX7_declaration_16 rfl ?_
    refine hr_iconst (v := 2) hC dX7_declaration_17 rfl ?_
    refine hr_icmp_gt (x := _) hC 25 dX7_declaration_18 (by decide) (fun c94 => ?_) (fun c94 => ?_)
    · refine hr_iconst (v := 0) hC dX7_declaration_25 rfl ?_
      exact hr_sub _ rfl (J91 _ (by first | (rw [if_neg c93, if_pos c94]; done) | (simp only [if_neg c93, if_pos c94]; done) | rfl))
    · refine hr_iconst (v := 1) hC dX7_declaration_21 rfl ?_
      refine hr_goto hC 26 dX7_declaration_22 (by decide) ?_
      exact hr_sub _ rfl (J91 _ (by first | (rw [if_neg c93, if_neg c94]; done) | (simp only [if_neg c93, if_neg c94]; done) | rfl))
def lp_X7_read_22 (n : Nat) (k0 : Nat) : Nat → Int32 → hc_St → Option (Nat × hc_St × Int32)
  | 0, _, _ => none
  | m + 1, y1, σ => Option.bind (fm_X7_is 0 σ) fun r7 => if r7 = 0 then (Option.bind (fm_X7_isWord 3 σ) fun r13 => Option.bind (α := Nat × hc_St × Int32) (if r13 = 0 then (Option.bind (fm_X7_declaration n k0 σ) fun r23 => hv r23 (0) <| some (0, r23.2.2, r23.2.1)) else (Option.bind (fm_X7_enumeration n k0 σ) fun r28 => hv r28 (0) <| some (0, r28.2.2, r28.2.1))) fun r19 => hw r19 (0) <| Option.bind (fm_X6_hang y1 r19.2.2 r19.2.1) fun r34 => lp_X7_read_22 n k0 m y1 r34) else (some (0, σ, 0))
/-- HomeCompiler$Reader.read()I -/
def fm_X7_read (n : Nat) (k0 : Nat)  (σ : hc_St) : Option (Nat × Int32 × hc_St) := hl (pI σ 7 2 0) fun σ1 => hl (pI σ1 7 5 0) fun σ2 => Option.bind (fm_X6_make 1 0 0 0 σ2) fun r3 => Option.bind (lp_X7_read_22 n k0 n r3.1 r3.2) fun r38 => hu r38 <| some (0, r3.1, r38.2.1)
set_option maxRecDepth 20000 in
set_option maxHeartbeats 4000000 in
theorem ll_X7_read_22 {l : Launch} {E : hc_E} {A : Nat → Prop} {am : Nat → Nat → Nat} {d : Nat} {X : hc_X} (n : Nat) (k0 : Nat) (hD : 2 * k0 + 24 ≤ d) (hem : X.2.2.2.2.2.2.2.2.2.1.exceptionTable.isEmpty = true) {oc : hc_Oc} {σe : hc_St} (hC : hc_C hc_V0 E cX7_read 2 RX7 (some .int) d oc σe (l, A, am, [2, 3, 4, 6, 12, 22]) X) : ∀ (m : Nat) (σ : hc_St) (y1 : Int32) (rl : Nat × hc_St × Int32), lp_X7_read_22 n k0 m y1 σ = some rl → (rl.1 = 0 → ∀ am1, hc_At hc_V0 E 2 X 60 [(1, .int y1)] [] rl.2.1 am1 []) → (rl.1 ≠ 0 → hc_C hc_V0 E cX7_read 2 RX7 (some .int) d (.inr rl.1) rl.2.1 (l, A, am, [2, 3, 4, 6, 12, 22]) X) → ∀ am1, hc_At hc_V0 E 2 X 22 [(0, .ref (E.2.1 7)), (1, .int y1)] [] σ am1 [] := by
  have hd1 : 1 ≤ d := by omega
  have hd8 : 9 ≤ d := by omega
  have hd12 : 12 ≤ d := by omega
  intro m
  induction m with
  | zero =>
    intro σ y1 rl h
    cases h
  | succ m ih =>
    intro σ y1 rl h JX HX am1
    rw [lp_X7_read_22] at h
    refine hr_aload_n hC dX7_read_22 rfl ?_
    refine hr_iconst (v := 0) hC dX7_read_23 rfl ?_
    obtain ⟨r7, e8, h⟩ := hx_bind h
    refine hs_callV0 hC 7 [_] _ dX7_read_24 q1242 q1244 qs12 q321 q1245 np_X7 rfl OB_7 pd_X7_is (Nat.le_of_ble_eq_true rfl) hd1 (okX7_is l E A (d - 1)  (by omega)  e8 am1) rfl ?_
    refine hr_if_ne (x := _) hC 60 dX7_read_27 (by decide) (fun c12 => ?_) (fun c12 => ?_)
    · rw [if_neg c12] at h
      obtain rfl := Option.some.inj h
      exact hr_sub _ rfl (JX rfl am1)
    · rw [if_pos c12] at h
      refine hr_aload_n hC dX7_read_30 rfl ?_
      refine hr_gO 6 hC F7_1 rfl dX7_read_31 q566 ?_
      refine hr_iload_n hC dX7_read_34 rfl ?_
      refine hr_aload_n hC dX7_read_35 rfl ?_
      refine hr_iconst (v := 3) hC dX7_read_36 rfl ?_
      obtain ⟨r13, e14, h⟩ := hx_bind h
      refine hs_callV0 hC 7 [_] _ dX7_read_37 q1250 q1252 qs13 q321 q1253 np_X7 rfl OB_7 pd_X7_isWord (Nat.le_of_ble_eq_true rfl) hd1 (okX7_isWord l E A (d - 1)  (by omega)  e14 am1) rfl ?_
      obtain ⟨r19, e20, h⟩ := hx_bind h
      have J21 : r19.1 = 0 → ∀ am33, hc_At hc_V0 E 2 X 54 [(0, .ref (E.2.1 7)), (1, .int y1)] [.int r19.2.2, .int y1, .ref (E.2.1 6)] r19.2.1 am33 [] := by
        intro z22 am33
        rw [hw_0 z22] at h
        obtain ⟨r34, e35, h⟩ := hx_bind h
        refine hs_callV0 hC 6 [_, _] _ dX7_read_54 q1412 q1378 q1379 q320 q1380 np_X6 rfl OB_6 pd_X6_hang (Nat.le_of_ble_eq_true rfl) hd1 (okX6_hang l E A (d - 1)  (by omega)  e35 am33) rfl ?_
        refine hr_goto hC 22 dX7_read_57 (by decide) ?_
        exact hr_sub _ rfl (ih _ _ _ h JX HX am33)
      have HX : r19.1 ≠ 0 → hc_C hc_V0 E cX7_read 2 RX7 (some .int) d (.inr r19.1) r19.2.1 (l, A, am, [2, 3, 4, 6, 12, 22]) X := by
        intro z22
        rw [hw_1 z22] at h
        obtain rfl := Option.some.inj h
        exact HX z22
      clear h
      have h := e20
      refine hr_if_eq (x := _) hC 50 dX7_read_40 (by decide) (fun c18 => ?_) (fun c18 => ?_)
      · rw [if_pos c18] at h
        refine hr_aload_n hC dX7_read_50 rfl ?_
        obtain ⟨r23, e24, h⟩ := hx_bind h
        by_cases z27 : r23.1 = 0
        · rw [hv_0 z27] at h
          refine hs_callV hC 7 [] _ dX7_read_51 q1446 q1448 qs35 q321 q1449 np_X7 rfl OB_7 pd_X7_declaration (Nat.le_of_ble_eq_true rfl) hd1 (hc_M0 (r := r23) (okX7_declaration l E A (d - 1) n k0 (by omega)  e24 am1) z27) (hc_rb rfl) rfl (fun am25 ha26 => ?_)
          obtain rfl := Option.some.inj h
          exact hr_sub _ rfl (J21 rfl am25)
        · rw [hv_1 z27] at h
          obtain rfl := Option.some.inj h
          exact hs_callVx (HX z27) hem 7 [] _ dX7_read_51 q1446 q1448 qs35 q321 q1449 np_X7 rfl OB_7 pd_X7_declaration (Nat.le_of_ble_eq_true rfl) hd1 (hc_M1 (r := r23) (okX7_declaration l E A (d - 1) n k0 (by omega)  e24 am1) z27) (hc_rb rfl) rfl
      · rw [if_neg c18] at h
        refine hr_aload_n hC dX7_read_43 rfl ?_
        obtain ⟨r28, e29, h⟩ := hx_bind h
        by_cases z32 : r28.1 = 0
        · rw [hv_0 z32] at h
          refine hs_callV hC 7 [] _ dX7_read_44 q1254 q1256 qs14 q321 q1257 np_X7 rfl OB_7 pd_X7_enumeration (Nat.le_of_ble_eq_true rfl) hd1 (hc_M0 (r := r28) (okX7_enumeration l E A (d - 1) n k0 (by omega)  e29 am1) z32) (hc_rb rfl) rfl (fun am30 ha31 => ?_)
          refine hr_goto hC 54 dX7_read_47 (by decide) ?_
          obtain rfl := Option.some.inj h
          exact hr_sub _ rfl (J21 rfl am30)
        · rw [hv_1 z32] at h
          obtain rfl := Option.some.inj h
          exact hs_callVx (HX z32) hem 7 [] _ dX7_read_44 q1254 q1256 qs14 q321 q1257 np_X7 rfl OB_7 pd_X7_enumeration (Nat.le_of_ble_eq_true rfl) hd1 (hc_M1 (r := r28) (okX7_enumeration l E A (d - 1) n k0 (by omega)  e29 am1) z32) (hc_rb rfl) rfl
set_option maxRecDepth 20000 in
set_option maxHeartbeats 4000000 in
theorem okX7_read (l : Launch) (E : hc_E) (A : Nat → Prop) (d : Nat) (n : Nat) (k0 : Nat) (hD : 2 * k0 + 24 ≤ d)  {σ : hc_St} {r : (Nat × Int32 × hc_St)} (h : fm_X7_read n k0  σ = some r) (am : Nat → Nat → Nat) : hc_M l hc_V0 yX7_read (ws_ yX7_read cX7_read 2 (some .int)) d E A [.ref (E.2.1 7)] am [2, 3, 4, 6, 12, 22] σ (hc_ot (fun v => some (.int v)) r) r.2.2 := by
  have hd1 : 1 ≤ d := by omega
  have hd8 : 9 ≤ d := by omega
  have hd12 : 12 ≤ d := by omega
  refine hc_enter2 (own := RX7) [(0, .ref (E.2.1 7))] pl_X7 rfl hc_V0_st hc_G0_nd rfl (Nat.le_of_ble_eq_true rfl) (fun X hC hem => ?_)
  have HX := fun z => hc_CX hC z
  unfold fm_X7_read at h
  refine hr_aload_n hC dX7_read_0 rfl ?_
  refine hr_iconst (v := 0) hC dX7_read_1 rfl ?_
  obtain ⟨σ1, hσ1, h⟩ := hl_ok h
  refine hr_pI hC F7_2 PX7_2 dX7_read_2 q567 ?_
  rw [← hσ1]
  refine hr_aload_n hC dX7_read_5 rfl ?_
  refine hr_iconst (v := 0) hC dX7_read_6 rfl ?_
  obtain ⟨σ2, hσ2, h⟩ := hl_ok h
  refine hr_pI hC F7_5 PX7_5 dX7_read_7 q570 ?_
  rw [← hσ2]
  refine hr_aload_n hC dX7_read_10 rfl ?_
  refine hr_gO 6 hC F7_1 rfl dX7_read_11 q566 ?_
  refine hr_iconst (v := 1) hC dX7_read_14 rfl ?_
  refine hr_iconst (v := 0) hC dX7_read_15 rfl ?_
  refine hr_iconst (v := 0) hC dX7_read_16 rfl ?_
  refine hr_iconst (v := 0) hC dX7_read_17 rfl ?_
  obtain ⟨r3, e4, h⟩ := hx_bind h
  refine hs_callV hC 6 [_, _, _, _] _ dX7_read_18 q1230 q1231 q1232 q320 q1233 np_X6 rfl OB_6 pd_X6_make (Nat.le_of_ble_eq_true rfl) hd1 (okX6_make l E A (d - 1)  (by omega)  e4 am) (hc_rb rfl) rfl (fun am5 ha6 => ?_)
  refine hr_istore_n hC dX7_read_21 (by decide) ?_
  obtain ⟨r38, e39, h⟩ := hx_bind h
  refine hr_sub _ rfl (ll_X7_read_22 n k0 hD hem hC n _ _ _ e39 (fun z41 am42 => ?_) (fun z41 => ?_) am5)
  · rw [hu_0 z41] at h
    refine hr_iload_n hC dX7_read_60 rfl ?_
    obtain rfl := Option.some.inj h
    exact hr_iret hC dX7_read_61
  · rw [hu_1 z41] at h
    obtain rfl := Option.some.inj h
    exact HX z41
/-- HomeCompiler$Names.count()I -/
def fm_X3_count   (σ : hc_St) : Option Int32 := some ((gI σ 2 4))
set_option maxRecDepth 20000 in
set_option maxHeartbeats 4000000 in
theorem okX3_count (l : Launch) (E : hc_E) (A : Nat → Prop) (d : Nat)  (hD : 1 ≤ d)  {σ : hc_St} {r : Int32} (h : fm_X3_count   σ = some r) (am : Nat → Nat → Nat) : hc_M l hc_V0 yX3_count (ws_ yX3_count cX3_count 1 (some .int)) d E A [.ref (E.2.1 2)] am [] σ (.inl (some (.int r))) σ := by
  have hd1 : 1 ≤ d := by omega
  refine hc_enter2 (own := RX3) [(0, .ref (E.2.1 2))] pl_X3 rfl hc_V0_st hc_G0_nd rfl (Nat.le_of_ble_eq_true rfl) (fun X hC hem => ?_)
  unfold fm_X3_count at h
  refine hr_aload_n hC dX3_count_0 rfl ?_
  refine hr_gI hC F2_4 dX3_count_1 q440 ?_
  obtain rfl := Option.some.inj h
  exact hr_iret hC dX3_count_4
def lp_X10_clear_20 (n : Nat) : Nat → Int32 → hc_St → Option (hc_St)
  | 0, _, _ => none
  | m + 1, y2, σ => if (nI (gL σ 10 5)) ≤ y2 then (some (σ)) else (hk (inb y2 (gL σ 10 5)) <| hl (pC σ 10 5 y2 ((-1))) fun σ15 => lp_X10_clear_20 n m ((y2 + 1)) σ15)
/-- HomeCompiler$Symbols.clear(I)V -/
def fm_X10_clear (n : Nat) (x1 : Int32) (σ : hc_St) : Option hc_St := Option.bind (α := hc_St) (if x1 ≤ (nI (gL σ 10 5)) then (some (σ)) else (hk (hna ((2 * x1)) σ) <| hl (pU σ 1 ((2 * x1)).toNatClampNeg) fun σ9 => hl (pA σ9 10 5 (((2 * x1)).toNatClampNeg) (fun _ => 0)) fun σ10 => some (σ10))) fun r3 => Option.bind (lp_X10_clear_20 n n 0 r3) fun r16 => hl (pI r16 10 4 0) fun σ21 => hl (pI σ21 10 7 0) fun σ22 => hk (inb 0 (gL σ22 10 6)) <| hl (pC σ22 10 6 0 0) fun σ24 => some σ24
set_option maxRecDepth 20000 in
set_option maxHeartbeats 4000000 in
theorem ll_X10_clear_20 {l : Launch} {E : hc_E} {A : Nat → Prop} {am : Nat → Nat → Nat} {d : Nat} {X : hc_X} (n : Nat) (hD : 1 ≤ d) (hem : X.2.2.2.2.2.2.2.2.2.1.exceptionTable.isEmpty = true) {oc : hc_Oc} {σe : hc_St} (hC : hc_C hc_V0 E cX10_clear 3 RX10 none d oc σe (l, A, am, [10]) X) : ∀ (m : Nat) (σ : hc_St) (y2 : Int32) (rl : hc_St) (am1 : Nat → Nat → Nat), lp_X10_clear_20 n m y2 σ = some rl → (hc_At hc_V0 E 3 X 42 [(0, .ref (E.2.1 10))] [] rl am1 []) → hc_At hc_V0 E 3 X 20 [(0, .ref (E.2.1 10)), (2, .int y2)] [] σ am1 [] := by
  have hd1 : 1 ≤ d := by omega
  intro m
  induction m with
  | zero =>
    intro σ y2 rl am1 h
    cases h
  | succ m ih =>
    intro σ y2 rl am1 h JX
    rw [lp_X10_clear_20] at h
    refine hr_iload_n hC dX10_clear_20 rfl ?_
    refine hr_aload_n hC dX10_clear_21 rfl ?_
    refine hr_gA hC F10_5 rfl dX10_clear_22 q614 ?_
    refine hs_alen1 hC A10_5 dX10_clear_25 ?_
    refine hr_icmp_ge (x := _) hC 42 dX10_clear_26 (by decide) (fun c13 => ?_) (fun c13 => ?_)
    · rw [if_pos c13] at h
      obtain rfl := Option.some.inj h
      exact hr_sub _ rfl (JX)
    · rw [if_neg c13] at h
      refine hr_aload_n hC dX10_clear_29 rfl ?_
      refine hr_gA hC F10_5 rfl dX10_clear_30 q614 ?_
      refine hr_iload_n hC dX10_clear_33 rfl ?_
      refine hr_iconst (v := (-1)) hC dX10_clear_34 rfl ?_
      obtain ⟨c14, h⟩ := hk_ok h
      obtain ⟨σ15, hσ15, h⟩ := hl_ok h
      refine hs_iast hC A10_5 c14 dX10_clear_35 ?_
      rw [← hσ15]
      refine hr_iinc (v := y2 + 1) hC dX10_clear_36 rfl rfl (by decide) ?_
      refine hr_goto hC 20 dX10_clear_39 (by decide) ?_
      exact hr_sub _ rfl (ih _ _ _ am1 h JX)
set_option maxRecDepth 20000 in
set_option maxHeartbeats 4000000 in
theorem okX10_clear (l : Launch) (E : hc_E) (A : Nat → Prop) (d : Nat) (n : Nat) (hD : 1 ≤ d) {x1 : Int32} {σ : hc_St} {r : hc_St} (h : fm_X10_clear n x1 σ = some r) (am : Nat → Nat → Nat) : hc_M l hc_V0 yX10_clear (ws_ yX10_clear cX10_clear 3 none) d E A [.ref (E.2.1 10), .int x1] am [10] σ (.inl none) r := by
  have hd1 : 1 ≤ d := by omega
  refine hc_enter2 (own := RX10) [(0, .ref (E.2.1 10)), (1, .int x1)] pl_X10 rfl hc_V0_st hc_G0_nd rfl (Nat.le_of_ble_eq_true rfl) (fun X hC hem => ?_)
  unfold fm_X10_clear at h
  refine hr_aload_n hC dX10_clear_0 rfl ?_
  refine hr_gA hC F10_5 rfl dX10_clear_1 q614 ?_
  refine hs_alen1 hC A10_5 dX10_clear_4 ?_
  refine hr_iload_n hC dX10_clear_5 rfl ?_
  obtain ⟨r3, e4, h⟩ := hx_bind h
  have J5 : ∀ am11, hc_At hc_V0 E 3 X 18 [(0, .ref (E.2.1 10))] [] r3 am11 [] := by
    intro am11
    refine hr_iconst (v := 0) hC dX10_clear_18 rfl ?_
    refine hr_istore_n hC dX10_clear_19 (by decide) ?_
    obtain ⟨r16, e17, h⟩ := hx_bind h
    refine hr_sub _ rfl (ll_X10_clear_20 n hD hem hC n _ _ _ am11 e17 ?_)
    refine hr_aload_n hC dX10_clear_42 rfl ?_
    refine hr_iconst (v := 0) hC dX10_clear_43 rfl ?_
    obtain ⟨σ21, hσ21, h⟩ := hl_ok h
    refine hr_pI hC F10_4 PX10_4 dX10_clear_44 q613 ?_
    rw [← hσ21]
    refine hr_aload_n hC dX10_clear_47 rfl ?_
    refine hr_iconst (v := 0) hC dX10_clear_48 rfl ?_
    obtain ⟨σ22, hσ22, h⟩ := hl_ok h
    refine hr_pI hC F10_7 PX10_7 dX10_clear_49 q616 ?_
    rw [← hσ22]
    refine hr_aload_n hC dX10_clear_52 rfl ?_
    refine hr_gA hC F10_6 rfl dX10_clear_53 q615 ?_
    refine hr_iconst (v := 0) hC dX10_clear_56 rfl ?_
    refine hr_iconst (v := 0) hC dX10_clear_57 rfl ?_
    obtain ⟨c23, h⟩ := hk_ok h
    obtain ⟨σ24, hσ24, h⟩ := hl_ok h
    refine hs_iast hC A10_6 c23 dX10_clear_58 ?_
    rw [← hσ24]
    obtain rfl := Option.some.inj h
    exact hr_vret hC dX10_clear_59
  clear h
  have h := e4
  refine hr_icmp_ge (x := _) hC 18 dX10_clear_6 (by decide) (fun c2 => ?_) (fun c2 => ?_)
  · rw [if_pos c2] at h
    obtain rfl := Option.some.inj h
    exact hr_sub _ rfl (J5 am)
  · rw [if_neg c2] at h
    refine hr_aload_n hC dX10_clear_9 rfl ?_
    refine hr_iconst (v := 2) hC dX10_clear_10 rfl ?_
    refine hr_iload_n hC dX10_clear_11 rfl ?_
    refine hr_imul hC dX10_clear_12 ?_
    obtain ⟨c7, h⟩ := hk_ok h
    obtain ⟨σ9, hσ9, h⟩ := hl_ok h
    refine hs_newI hC dX10_clear_13 c7 (fun q8 => ?_)
    rw [← hσ9]
    obtain ⟨σ10, hσ10, h⟩ := hl_ok h
    refine hr_pA hC F10_5 rfl A10_5 PX10_5 (hc_mm rfl) dX10_clear_15 q614 ?_
    rw [← hσ10]
    obtain rfl := Option.some.inj h
    exact hr_sub _ rfl (J5 ((hc_up2 am 10 5 q8)))
/-- HomeCompiler$Words.given(I)Ljava/lang/String; -/
def fm_X2_given  (x1 : Int32) (σ : hc_St) : Option Int32 := hk (inb x1 (gL σ 1 1)) <| some ((gC σ 1 1 x1))
set_option maxRecDepth 20000 in
set_option maxHeartbeats 4000000 in
theorem okX2_given (l : Launch) (E : hc_E) (A : Nat → Prop) (d : Nat)  (hD : 1 ≤ d) {x1 : Int32} {σ : hc_St} {r : Int32} (h : fm_X2_given  x1 σ = some r) (am : Nat → Nat → Nat) : hc_M l hc_V0 yX2_given (ws_ yX2_given cX2_given 2 (some (.object "java/lang/String"))) d E A [.ref (E.2.1 1), .int x1] am [] σ (.inl (some (.ref (E.2.2.2.1 r.toNatClampNeg)))) σ := by
  have hd1 : 1 ≤ d := by omega
  refine hc_enter2 (own := RX2) [(0, .ref (E.2.1 1)), (1, .int x1)] pl_X2 rfl hc_V0_st hc_G0_nd rfl (Nat.le_of_ble_eq_true rfl) (fun X hC hem => ?_)
  unfold fm_X2_given at h
  refine hr_aload_n hC dX2_given_0 rfl ?_
  refine hr_gA hC F1_1 rfl dX2_given_1 q407 ?_
  refine hr_iload_n hC dX2_given_4 rfl ?_
  obtain ⟨c1, h⟩ := hk_ok h
  refine hs_sald hC A1_1 c1 dX2_given_5 ?_
  obtain rfl := Option.some.inj h
  exact hr_aret hC (Or.inl ⟨_, rfl⟩) dX2_given_6
