set_option maxRecDepth 20000
/-- HomeCompiler$Reader.takesWord(I)Z -/
def fm_X7_takesWord (n : Nat) (x1 : Int32) (σ : hc_St) : Option (Int32 × hc_St) := Option.bind (fm_X7_takes n ((200 + x1)) σ) fun r1 => hk (hb01 r1.1) <| some (r1.1, r1.2)
set_option maxRecDepth 20000 in
set_option maxHeartbeats 4000000 in
theorem okX7_takesWord (l : Launch) (E : hc_E) (A : Nat → Prop) (d : Nat) (n : Nat) (hD : 14 ≤ d) {x1 : Int32} {σ : hc_St} {r : (Int32 × hc_St)} (h : fm_X7_takesWord n x1 σ = some r) (am : Nat → Nat → Nat) : hc_M l hc_V0 yX7_takesWord (ws_ yX7_takesWord cX7_takesWord 2 (some .boolean)) d E A [.ref (E.2.1 7), .int x1] am [2, 3, 4, 12, 22] σ (.inl (some (.int r.1))) r.2 := by
  have hd1 : 1 ≤ d := by omega
  have hd8 : 9 ≤ d := by omega
  have hd12 : 12 ≤ d := by omega
  refine hc_enter2 (own := RX7) [(0, .ref (E.2.1 7)), (1, .int x1)] pl_X7 rfl hc_V0_st hc_G0_nd rfl (Nat.le_of_ble_eq_true rfl) (fun X hC hem => ?_)
  unfold fm_X7_takesWord at h
  refine hr_aload_n hC dX7_takesWord_0 rfl ?_
  refine hr_sipush (v := 200) hC dX7_takesWord_1 rfl ?_
  refine hr_iload_n hC dX7_takesWord_4 rfl ?_
  refine hr_iadd hC dX7_takesWord_5 ?_
  obtain ⟨r1, e2, h⟩ := hx_bind h
  refine hs_callV hC 7 [_] _ dX7_takesWord_6 q1348 q1350 qs19 q321 q1351 np_X7 rfl OB_7 pd_X7_takes (Nat.le_of_ble_eq_true rfl) hd1 (okX7_takes l E A (d - 1) n (by omega)  e2 am) (hc_rb rfl) rfl (fun am3 ha4 => ?_)
  obtain ⟨c5, h⟩ := hk_ok h
  obtain rfl := Option.some.inj h
  exact hr_zret hC (hb01_n c5) dX7_takesWord_9
/-- HomeCompiler$Nodes.setExtra(II)V -/
def fm_X6_setExtra  (x1 : Int32) (x2 : Int32) (σ : hc_St) : Option hc_St := hk (inb x1 (gL σ 6 3)) <| hl (pC σ 6 3 x1 x2) fun σ2 => some σ2
set_option maxRecDepth 20000 in
set_option maxHeartbeats 4000000 in
theorem okX6_setExtra (l : Launch) (E : hc_E) (A : Nat → Prop) (d : Nat)  (hD : 1 ≤ d) {x1 : Int32} {x2 : Int32} {σ : hc_St} {r : hc_St} (h : fm_X6_setExtra  x1 x2 σ = some r) (am : Nat → Nat → Nat) : hc_M l hc_V0 yX6_setExtra (ws_ yX6_setExtra cX6_setExtra 3 none) d E A [.ref (E.2.1 6), .int x1, .int x2] am [] σ (.inl none) r := by
  have hd1 : 1 ≤ d := by omega
  refine hc_enter2 (own := RX6) [(0, .ref (E.2.1 6)), (1, .int x1), (2, .int x2)] pl_X6 rfl hc_V0_st hc_G0_nd rfl (Nat.le_of_ble_eq_true rfl) (fun X hC hem => ?_)
  unfold fm_X6_setExtra at h
  refine hr_aload_n hC dX6_setExtra_0 rfl ?_
  refine hr_gA hC F6_3 rfl dX6_setExtra_1 q528 ?_
  refine hr_iload_n hC dX6_setExtra_4 rfl ?_
  refine hr_iload_n hC dX6_setExtra_5 rfl ?_
  obtain ⟨c1, h⟩ := hk_ok h
  obtain ⟨σ2, hσ2, h⟩ := hl_ok h
  refine hs_iast hC A6_3 c1 dX6_setExtra_6 ?_
  rw [← hσ2]
  obtain rfl := Option.some.inj h
  exact hr_vret hC dX6_setExtra_7
/-- HomeCompiler$Reader.parameter()I -/
def fm_X7_parameter (n : Nat)  (σ : hc_St) : Option (Nat × Int32 × hc_St) := Option.bind (fm_X5_token  σ) fun r1 => hl (α := Int32) ((if (r1 - 200) = 0 then 1 else (if (r1 - 200) = 1 then 1 else 0))) fun v7 => Option.bind (fm_X7_need v7 σ) fun r8 => ht r8 <| Option.bind (fm_X5_next n r8.2.2) fun r13 => Option.bind (fm_X5_start  r13) fun r17 => Option.bind (fm_X7_name n r13) fun r21 => ht r21 <| Option.bind (fm_X6_make 5 ((r1 - 200)) r21.2.1 r17 r21.2.2) fun r26 => Option.bind (fm_X7_is 91 r26.2) fun r30 => Option.bind (α := Nat × hc_St × Int32) (if r30 = 0 then (some (0, r26.2, (0 : Int32))) else (Option.bind (fm_X7_bracket n 91 r26.2) fun r40 => hv r40 (0) <| Option.bind (fm_X7_closes n 93 r40.2.2) fun r45 => hv r45 (0) <| Option.bind (fm_X6_setExtra r26.1 1 r45.2.2) fun r50 => some (0, r50, (0 : Int32)))) fun r36 => hu r36 <| some (0, r26.1, r36.2.1)
set_option maxRecDepth 20000 in
set_option maxHeartbeats 4000000 in
theorem okX7_parameter (l : Launch) (E : hc_E) (A : Nat → Prop) (d : Nat) (n : Nat) (hD : 16 ≤ d)  {σ : hc_St} {r : (Nat × Int32 × hc_St)} (h : fm_X7_parameter n  σ = some r) (am : Nat → Nat → Nat) : hc_M l hc_V0 yX7_parameter (ws_ yX7_parameter cX7_parameter 4 (some .int)) d E A [.ref (E.2.1 7)] am [2, 3, 4, 6, 12, 22] σ (hc_ot (fun v => some (.int v)) r) r.2.2 := by
  have hd1 : 1 ≤ d := by omega
  have hd8 : 9 ≤ d := by omega
  have hd12 : 12 ≤ d := by omega
  refine hc_enter2 (own := RX7) [(0, .ref (E.2.1 7))] pl_X7 rfl hc_V0_st hc_G0_nd rfl (Nat.le_of_ble_eq_true rfl) (fun X hC hem => ?_)
  have HX := fun z => hc_CX hC z
  unfold fm_X7_parameter at h
  refine hr_aload_n hC dX7_parameter_0 rfl ?_
  refine hr_gO 5 hC F7_0 rfl dX7_parameter_1 q565 ?_
  obtain ⟨r1, e2, h⟩ := hx_bind h
  refine hs_callV0 hC 5 [] _ dX7_parameter_4 q1246 q1247 q1248 q319 q1249 np_X5 rfl OB_5 pd_X5_token (Nat.le_of_ble_eq_true rfl) hd1 (okX5_token l E A (d - 1)  (by omega)  e2 am) rfl ?_
  refine hr_sipush (v := 200) hC dX7_parameter_7 rfl ?_
  refine hr_isub hC dX7_parameter_10 ?_
  refine hr_istore_n hC dX7_parameter_11 (by decide) ?_
  refine hr_iload_n hC dX7_parameter_12 rfl ?_
  obtain ⟨v7, hv7, h⟩ := hl_ok h
  have J55 : ∀ w56 : Int32, (if (r1 - 200) = 0 then 1 else (if (r1 - 200) = 1 then 1 else 0)) = w56 → hc_At hc_V0 E 4 X 26 [(0, .ref (E.2.1 7)), (1, .int (r1 - 200))] [.int w56] σ am [] := by
    intro w56 hw56
    obtain rfl := hv7.trans hw56
    obtain ⟨r8, e9, h⟩ := hx_bind h
    by_cases z12 : r8.1 = 0
    · rw [ht_0 z12] at h
      refine hs_callS0 hC [_] _ dX7_parameter_26 q1267 q1268 q321 q1269 np_X7 rfl pd_X7_need (Nat.le_of_ble_eq_true rfl) hd1 (hc_M0 (r := r8) (okX7_need l E A (d - 1)  (by omega)  e9 am) z12) rfl ?_
      refine hr_aload_n hC dX7_parameter_29 rfl ?_
      refine hr_gO 5 hC F7_0 rfl dX7_parameter_30 q565 ?_
      obtain ⟨r13, e14, h⟩ := hx_bind h
      refine hs_callV hC 5 [] _ dX7_parameter_33 q1262 q1076 q1077 q319 q1078 np_X5 rfl OB_5 pd_X5_next (Nat.le_of_ble_eq_true rfl) hd1 (okX5_next l E A (d - 1) n (by omega)  e14 am) (hc_rb rfl) rfl (fun am15 ha16 => ?_)
      refine hr_aload_n hC dX7_parameter_36 rfl ?_
      refine hr_gO 5 hC F7_0 rfl dX7_parameter_37 q565 ?_
      obtain ⟨r17, e18, h⟩ := hx_bind h
      refine hs_callV0 hC 5 [] _ dX7_parameter_40 q1258 q1259 q1260 q319 q1261 np_X5 rfl OB_5 pd_X5_start (Nat.le_of_ble_eq_true rfl) hd1 (okX5_start l E A (d - 1)  (by omega)  e18 am15) rfl ?_
      refine hr_istore_n hC dX7_parameter_43 (by decide) ?_
      refine hr_aload_n hC dX7_parameter_44 rfl ?_
      refine hr_gO 6 hC F7_1 rfl dX7_parameter_45 q566 ?_
      refine hr_iconst (v := 5) hC dX7_parameter_48 rfl ?_
      refine hr_iload_n hC dX7_parameter_49 rfl ?_
      refine hr_aload_n hC dX7_parameter_50 rfl ?_
      obtain ⟨r21, e22, h⟩ := hx_bind h
      by_cases z25 : r21.1 = 0
      · rw [ht_0 z25] at h
        refine hs_callV hC 7 [] _ dX7_parameter_51 q1340 q1342 qs18 q321 q1343 np_X7 rfl OB_7 pd_X7_name (Nat.le_of_ble_eq_true rfl) hd1 (hc_M0 (r := r21) (okX7_name l E A (d - 1) n (by omega)  e22 am15) z25) (hc_rb rfl) rfl (fun am23 ha24 => ?_)
        refine hr_iload_n hC dX7_parameter_54 rfl ?_
        obtain ⟨r26, e27, h⟩ := hx_bind h
        refine hs_callV hC 6 [_, _, _, _] _ dX7_parameter_55 q1230 q1231 q1232 q320 q1233 np_X6 rfl OB_6 pd_X6_make (Nat.le_of_ble_eq_true rfl) hd1 (okX6_make l E A (d - 1)  (by omega)  e27 am23) (hc_rb rfl) rfl (fun am28 ha29 => ?_)
        refine hr_istore_n hC dX7_parameter_58 (by decide) ?_
        refine hr_aload_n hC dX7_parameter_59 rfl ?_
        refine hr_bipush (v := 91) hC dX7_parameter_60 rfl ?_
        obtain ⟨r30, e31, h⟩ := hx_bind h
        refine hs_callV0 hC 7 [_] _ dX7_parameter_62 q1242 q1244 qs12 q321 q1245 np_X7 rfl OB_7 pd_X7_is (Nat.le_of_ble_eq_true rfl) hd1 (okX7_is l E A (d - 1)  (by omega)  e31 am28) rfl ?_
        obtain ⟨r36, e37, h⟩ := hx_bind h
        have J38 : r36.1 = 0 → ∀ am54, hc_At hc_V0 E 4 X 89 [(3, .int r26.1)] [] r36.2.1 am54 [] := by
          intro z39 am54
          rw [hu_0 z39] at h
          refine hr_iload_n hC dX7_parameter_89 rfl ?_
          obtain rfl := Option.some.inj h
          exact hr_iret hC dX7_parameter_90
        have HX : r36.1 ≠ 0 → hc_C hc_V0 E cX7_parameter 4 RX7 (some .int) d (.inr r36.1) r36.2.1 (l, A, am, [2, 3, 4, 6, 12, 22]) X := by
          intro z39
          rw [hu_1 z39] at h
          obtain rfl := Option.some.inj h
          exact HX z39
        clear h
        have h := e37
        refine hr_if_eq (x := _) hC 89 dX7_parameter_65 (by decide) (fun c35 => ?_) (fun c35 => ?_)
        · rw [if_pos c35] at h
          obtain rfl := Option.some.inj h
          exact hr_sub _ rfl (J38 rfl am28)
        · rw [if_neg c35] at h
          refine hr_aload_n hC dX7_parameter_68 rfl ?_
          refine hr_bipush (v := 91) hC dX7_parameter_69 rfl ?_
          obtain ⟨r40, e41, h⟩ := hx_bind h
          by_cases z44 : r40.1 = 0
          · rw [hv_0 z44] at h
            refine hs_callV hC 7 [_] _ dX7_parameter_71 q1263 q1265 qs15 q321 q1266 np_X7 rfl OB_7 pd_X7_bracket (Nat.le_of_ble_eq_true rfl) hd1 (hc_M0 (r := r40) (okX7_bracket l E A (d - 1) n (by omega)  e41 am28) z44) (hc_rb rfl) rfl (fun am42 ha43 => ?_)
            refine hr_aload_n hC dX7_parameter_74 rfl ?_
            refine hr_bipush (v := 93) hC dX7_parameter_75 rfl ?_
            obtain ⟨r45, e46, h⟩ := hx_bind h
            by_cases z49 : r45.1 = 0
            · rw [hv_0 z49] at h
              refine hs_callV hC 7 [_] _ dX7_parameter_77 q1438 q1440 qs33 q321 q1441 np_X7 rfl OB_7 pd_X7_closes (Nat.le_of_ble_eq_true rfl) hd1 (hc_M0 (r := r45) (okX7_closes l E A (d - 1) n (by omega)  e46 am42) z49) (hc_rb rfl) rfl (fun am47 ha48 => ?_)
              refine hr_aload_n hC dX7_parameter_80 rfl ?_
              refine hr_gO 6 hC F7_1 rfl dX7_parameter_81 q566 ?_
              refine hr_iload_n hC dX7_parameter_84 rfl ?_
              refine hr_iconst (v := 1) hC dX7_parameter_85 rfl ?_
              obtain ⟨r50, e51, h⟩ := hx_bind h
              refine hs_callV0 hC 6 [_, _] _ dX7_parameter_86 q1462 q1463 q1464 q320 q1465 np_X6 rfl OB_6 pd_X6_setExtra (Nat.le_of_ble_eq_true rfl) hd1 (okX6_setExtra l E A (d - 1)  (by omega)  e51 am47) rfl ?_
              obtain rfl := Option.some.inj h
              exact hr_sub _ rfl (J38 rfl am47)
            · rw [hv_1 z49] at h
              obtain rfl := Option.some.inj h
              exact hs_callVx (HX z49) hem 7 [_] _ dX7_parameter_77 q1438 q1440 qs33 q321 q1441 np_X7 rfl OB_7 pd_X7_closes (Nat.le_of_ble_eq_true rfl) hd1 (hc_M1 (r := r45) (okX7_closes l E A (d - 1) n (by omega)  e46 am42) z49) (hc_rb rfl) rfl
          · rw [hv_1 z44] at h
            obtain rfl := Option.some.inj h
            exact hs_callVx (HX z44) hem 7 [_] _ dX7_parameter_71 q1263 q1265 qs15 q321 q1266 np_X7 rfl OB_7 pd_X7_bracket (Nat.le_of_ble_eq_true rfl) hd1 (hc_M1 (r := r40) (okX7_bracket l E A (d - 1) n (by omega)  e41 am28) z44) (hc_rb rfl) rfl
      · rw [ht_1 z25] at h
        obtain rfl := Option.some.inj h
        exact hs_callVx (HX z25) hem 7 [] _ dX7_parameter_51 q1340 q1342 qs18 q321 q1343 np_X7 rfl OB_7 pd_X7_name (Nat.le_of_ble_eq_true rfl) hd1 (hc_M1 (r := r21) (okX7_name l E A (d - 1) n (by omega)  e22 am15) z25) (hc_rb rfl) rfl
    · rw [ht_1 z12] at h
      obtain rfl := Option.some.inj h
      exact hs_callSx (HX z12) hem [_] _ dX7_parameter_26 q1267 q1268 q321 q1269 np_X7 rfl pd_X7_need (Nat.le_of_ble_eq_true rfl) hd1 (hc_M1 (r := r8) (okX7_need l E A (d - 1)  (by omega)  e9 am) z12) (hc_rb rfl) rfl
  refine hr_if_eq (x := _) hC 21 dX7_parameter_13 (by decide) (fun c57 => ?_) (fun c57 => ?_)
  · refine hr_iconst (v := 1) hC dX7_parameter_21 rfl ?_
    refine hr_goto hC 26 dX7_parameter_22 (by decide) ?_
    exact hr_sub _ rfl (J55 _ (by first | (rw [if_pos c57]; done) | (simp only [if_pos c57]; done) | rfl))
  · refine hr_iload_n hC dX7_parameter_16 rfl ?_
    refine hr_iconst (v := 1) hC dX7_parameter_17 rfl ?_
    refine hr_icmp_ne (x := _) hC 25 dX7_parameter_18 (by decide) (fun c58 => ?_) (fun c58 => ?_)
    · refine hr_iconst (v := 0) hC dX7_parameter_25 rfl ?_
      exact hr_sub _ rfl (J55 _ (by first | (rw [if_neg c57, if_neg c58]; done) | (simp only [if_neg c57, if_neg c58]; done) | rfl))
    · refine hr_iconst (v := 1) hC dX7_parameter_21 rfl ?_
      refine hr_goto hC 26 dX7_parameter_22 (by decide) ?_
      exact hr_sub _ rfl (J55 _ (by first | (rw [if_neg c57, if_pos c58]; done) | (simp only [if_neg c57, if_pos c58]; done) | rfl))
/-- HomeCompiler$Reader.isDeclaration()Z -/
def fm_X7_isDeclaration   (σ : hc_St) : Option Int32 := Option.bind (fm_X7_isWord 0 σ) fun r1 => Option.bind (α := Int32) (if r1 = 0 then (Option.bind (fm_X7_isWord 1 σ) fun r11 => if r11 = 0 then (some (0)) else (some (1))) else (some (1))) fun r7 => hk (hb01 r7) <| some r7
set_option maxRecDepth 20000 in
set_option maxHeartbeats 4000000 in
theorem okX7_isDeclaration (l : Launch) (E : hc_E) (A : Nat → Prop) (d : Nat)  (hD : 4 ≤ d)  {σ : hc_St} {r : Int32} (h : fm_X7_isDeclaration   σ = some r) (am : Nat → Nat → Nat) : hc_M l hc_V0 yX7_isDeclaration (ws_ yX7_isDeclaration cX7_isDeclaration 1 (some .boolean)) d E A [.ref (E.2.1 7)] am [] σ (.inl (some (.int r))) σ := by
  have hd1 : 1 ≤ d := by omega
  refine hc_enter2 (own := RX7) [(0, .ref (E.2.1 7))] pl_X7 rfl hc_V0_st hc_G0_nd rfl (Nat.le_of_ble_eq_true rfl) (fun X hC hem => ?_)
  unfold fm_X7_isDeclaration at h
  refine hr_aload_n hC dX7_isDeclaration_0 rfl ?_
  refine hr_iconst (v := 0) hC dX7_isDeclaration_1 rfl ?_
  obtain ⟨r1, e2, h⟩ := hx_bind h
  refine hs_callV0 hC 7 [_] _ dX7_isDeclaration_2 q1250 q1252 qs13 q321 q1253 np_X7 rfl OB_7 pd_X7_isWord (Nat.le_of_ble_eq_true rfl) hd1 (okX7_isWord l E A (d - 1)  (by omega)  e2 am) rfl ?_
  obtain ⟨r7, e8, h⟩ := hx_bind h
  have J9 : hc_At hc_V0 E 1 X 21 [] [.int r7] σ am [] := by
    obtain ⟨c17, h⟩ := hk_ok h
    obtain rfl := Option.some.inj h
    exact hr_zret hC (hb01_n c17) dX7_isDeclaration_21
  clear h
  have h := e8
  refine hr_if_ne (x := _) hC 16 dX7_isDeclaration_5 (by decide) (fun c6 => ?_) (fun c6 => ?_)
  · rw [if_neg c6] at h
    refine hr_iconst (v := 1) hC dX7_isDeclaration_16 rfl ?_
    refine hr_goto hC 21 dX7_isDeclaration_17 (by decide) ?_
    obtain rfl := Option.some.inj h
    exact hr_sub _ rfl (J9)
  · rw [if_pos c6] at h
    refine hr_aload_n hC dX7_isDeclaration_8 rfl ?_
    refine hr_iconst (v := 1) hC dX7_isDeclaration_9 rfl ?_
    obtain ⟨r11, e12, h⟩ := hx_bind h
    refine hs_callV0 hC 7 [_] _ dX7_isDeclaration_10 q1250 q1252 qs13 q321 q1253 np_X7 rfl OB_7 pd_X7_isWord (Nat.le_of_ble_eq_true rfl) hd1 (okX7_isWord l E A (d - 1)  (by omega)  e12 am) rfl ?_
    refine hr_if_eq (x := _) hC 20 dX7_isDeclaration_13 (by decide) (fun c16 => ?_) (fun c16 => ?_)
    · rw [if_pos c16] at h
      refine hr_iconst (v := 0) hC dX7_isDeclaration_20 rfl ?_
      obtain rfl := Option.some.inj h
      exact hr_sub _ rfl (J9)
    · rw [if_neg c16] at h
      refine hr_iconst (v := 1) hC dX7_isDeclaration_16 rfl ?_
      refine hr_goto hC 21 dX7_isDeclaration_17 (by decide) ?_
      obtain rfl := Option.some.inj h
      exact hr_sub _ rfl (J9)
/-- HomeCompiler$Nodes.setOp(II)V -/
def fm_X6_setOp  (x1 : Int32) (x2 : Int32) (σ : hc_St) : Option hc_St := hk (inb x1 (gL σ 6 1)) <| hl (pC σ 6 1 x1 x2) fun σ2 => some σ2
set_option maxRecDepth 20000 in
set_option maxHeartbeats 4000000 in
theorem okX6_setOp (l : Launch) (E : hc_E) (A : Nat → Prop) (d : Nat)  (hD : 1 ≤ d) {x1 : Int32} {x2 : Int32} {σ : hc_St} {r : hc_St} (h : fm_X6_setOp  x1 x2 σ = some r) (am : Nat → Nat → Nat) : hc_M l hc_V0 yX6_setOp (ws_ yX6_setOp cX6_setOp 3 none) d E A [.ref (E.2.1 6), .int x1, .int x2] am [] σ (.inl none) r := by
  have hd1 : 1 ≤ d := by omega
  refine hc_enter2 (own := RX6) [(0, .ref (E.2.1 6)), (1, .int x1), (2, .int x2)] pl_X6 rfl hc_V0_st hc_G0_nd rfl (Nat.le_of_ble_eq_true rfl) (fun X hC hem => ?_)
  unfold fm_X6_setOp at h
  refine hr_aload_n hC dX6_setOp_0 rfl ?_
  refine hr_gA hC F6_1 rfl dX6_setOp_1 q526 ?_
  refine hr_iload_n hC dX6_setOp_4 rfl ?_
  refine hr_iload_n hC dX6_setOp_5 rfl ?_
  obtain ⟨c1, h⟩ := hk_ok h
  obtain ⟨σ2, hσ2, h⟩ := hl_ok h
  refine hs_iast hC A6_1 c1 dX6_setOp_6 ?_
  rw [← hσ2]
  obtain rfl := Option.some.inj h
  exact hr_vret hC dX6_setOp_7
/-- HomeCompiler$Scanner.string()I -/
def fm_X5_string   (σ : hc_St) : Option Int32 := some ((gI σ 5 10))
set_option maxRecDepth 20000 in
set_option maxHeartbeats 4000000 in
theorem okX5_string (l : Launch) (E : hc_E) (A : Nat → Prop) (d : Nat)  (hD : 1 ≤ d)  {σ : hc_St} {r : Int32} (h : fm_X5_string   σ = some r) (am : Nat → Nat → Nat) : hc_M l hc_V0 yX5_string (ws_ yX5_string cX5_string 1 (some .int)) d E A [.ref (E.2.1 5)] am [] σ (.inl (some (.int r))) σ := by
  have hd1 : 1 ≤ d := by omega
  refine hc_enter2 (own := RX5) [(0, .ref (E.2.1 5))] pl_X5 rfl hc_V0_st hc_G0_nd rfl (Nat.le_of_ble_eq_true rfl) (fun X hC hem => ?_)
  unfold fm_X5_string at h
  refine hr_aload_n hC dX5_string_0 rfl ?_
  refine hr_gI hC F5_10 dX5_string_1 q495 ?_
  obtain rfl := Option.some.inj h
  exact hr_iret hC dX5_string_4
/-- HomeCompiler$Reader.string()I -/
def fm_X7_string (n : Nat)  (σ : hc_St) : Option (Int32 × hc_St) := Option.bind (fm_X5_stringLength  σ) fun r1 => Option.bind (fm_X5_string  σ) fun r5 => Option.bind (fm_X5_start  σ) fun r9 => Option.bind (fm_X6_make 9 r1 r5 r9 σ) fun r13 => Option.bind (fm_X5_next n r13.2) fun r17 => some (r13.1, r17)
set_option maxRecDepth 20000 in
set_option maxHeartbeats 4000000 in
theorem okX7_string (l : Launch) (E : hc_E) (A : Nat → Prop) (d : Nat) (n : Nat) (hD : 13 ≤ d)  {σ : hc_St} {r : (Int32 × hc_St)} (h : fm_X7_string n  σ = some r) (am : Nat → Nat → Nat) : hc_M l hc_V0 yX7_string (ws_ yX7_string cX7_string 2 (some .int)) d E A [.ref (E.2.1 7)] am [2, 3, 4, 6, 12, 22] σ (.inl (some (.int r.1))) r.2 := by
  have hd1 : 1 ≤ d := by omega
  have hd8 : 9 ≤ d := by omega
  have hd12 : 12 ≤ d := by omega
  refine hc_enter2 (own := RX7) [(0, .ref (E.2.1 7))] pl_X7 rfl hc_V0_st hc_G0_nd rfl (Nat.le_of_ble_eq_true rfl) (fun X hC hem => ?_)
  unfold fm_X7_string at h
  refine hr_aload_n hC dX7_string_0 rfl ?_
  refine hr_gO 6 hC F7_1 rfl dX7_string_1 q566 ?_
  refine hr_bipush (v := 9) hC dX7_string_4 rfl ?_
  refine hr_aload_n hC dX7_string_6 rfl ?_
  refine hr_gO 5 hC F7_0 rfl dX7_string_7 q565 ?_
  obtain ⟨r1, e2, h⟩ := hx_bind h
  refine hs_callV0 hC 5 [] _ dX7_string_10 q1494 q1208 q1209 q319 q1210 np_X5 rfl OB_5 pd_X5_stringLength (Nat.le_of_ble_eq_true rfl) hd1 (okX5_stringLength l E A (d - 1)  (by omega)  e2 am) rfl ?_
  refine hr_aload_n hC dX7_string_13 rfl ?_
  refine hr_gO 5 hC F7_0 rfl dX7_string_14 q565 ?_
  obtain ⟨r5, e6, h⟩ := hx_bind h
  refine hs_callV0 hC 5 [] _ dX7_string_17 q1495 q1496 q1497 q319 q1498 np_X5 rfl OB_5 pd_X5_string (Nat.le_of_ble_eq_true rfl) hd1 (okX5_string l E A (d - 1)  (by omega)  e6 am) rfl ?_
  refine hr_aload_n hC dX7_string_20 rfl ?_
  refine hr_gO 5 hC F7_0 rfl dX7_string_21 q565 ?_
  obtain ⟨r9, e10, h⟩ := hx_bind h
  refine hs_callV0 hC 5 [] _ dX7_string_24 q1258 q1259 q1260 q319 q1261 np_X5 rfl OB_5 pd_X5_start (Nat.le_of_ble_eq_true rfl) hd1 (okX5_start l E A (d - 1)  (by omega)  e10 am) rfl ?_
  obtain ⟨r13, e14, h⟩ := hx_bind h
  refine hs_callV hC 6 [_, _, _, _] _ dX7_string_27 q1230 q1231 q1232 q320 q1233 np_X6 rfl OB_6 pd_X6_make (Nat.le_of_ble_eq_true rfl) hd1 (okX6_make l E A (d - 1)  (by omega)  e14 am) (hc_rb rfl) rfl (fun am15 ha16 => ?_)
  refine hr_istore_n hC dX7_string_30 (by decide) ?_
  refine hr_aload_n hC dX7_string_31 rfl ?_
  refine hr_gO 5 hC F7_0 rfl dX7_string_32 q565 ?_
  obtain ⟨r17, e18, h⟩ := hx_bind h
  refine hs_callV hC 5 [] _ dX7_string_35 q1262 q1076 q1077 q319 q1078 np_X5 rfl OB_5 pd_X5_next (Nat.le_of_ble_eq_true rfl) hd1 (okX5_next l E A (d - 1) n (by omega)  e18 am15) (hc_rb rfl) rfl (fun am19 ha20 => ?_)
  refine hr_iload_n hC dX7_string_38 rfl ?_
  obtain rfl := Option.some.inj h
  exact hr_iret hC dX7_string_39
def lp_X7_list_37 (n : Nat) (k0 : Nat) : Nat → Int32 → hc_St → Option (Nat × hc_St × Int32)
  | 0, _, _ => none
  | m + 1, y1, σ => Option.bind (fm_X7_takes n 44 σ) fun r23 => if r23.1 = 0 then (some (0, r23.2, 0)) else (Option.bind (fm_X7_constant n k0 r23.2) fun r29 => hv r29 (0) <| Option.bind (fm_X6_hang y1 r29.2.1 r29.2.2) fun r34 => lp_X7_list_37 n k0 m y1 r34)
/-- HomeCompiler$Reader.list()I -/
def fm_X7_list (n : Nat) (k0 : Nat)  (σ : hc_St) : Option (Nat × Int32 × hc_St) := Option.bind (fm_X5_start  σ) fun r1 => Option.bind (fm_X6_make 8 0 0 r1 σ) fun r5 => Option.bind (fm_X7_bracket n 123 r5.2) fun r9 => ht r9 <| Option.bind (fm_X7_constant n k0 r9.2.2) fun r14 => ht r14 <| Option.bind (fm_X6_hang r5.1 r14.2.1 r14.2.2) fun r19 => Option.bind (lp_X7_list_37 n k0 n r5.1 r19) fun r38 => hu r38 <| Option.bind (fm_X7_closes n 125 r38.2.1) fun r43 => ht r43 <| some (0, r5.1, r43.2.2)
set_option maxRecDepth 20000 in
set_option maxHeartbeats 4000000 in
theorem ll_X7_list_37 {l : Launch} {E : hc_E} {A : Nat → Prop} {am : Nat → Nat → Nat} {d : Nat} {X : hc_X} (n : Nat) (k0 : Nat) (hD : 1 * k0 + 18 ≤ d) (hem : X.2.2.2.2.2.2.2.2.2.1.exceptionTable.isEmpty = true) {oc : hc_Oc} {σe : hc_St} (hC : hc_C hc_V0 E cX7_list 2 RX7 (some .int) d oc σe (l, A, am, [2, 3, 4, 6, 12, 22]) X) : ∀ (m : Nat) (σ : hc_St) (y1 : Int32) (rl : Nat × hc_St × Int32), lp_X7_list_37 n k0 m y1 σ = some rl → (rl.1 = 0 → ∀ am1, hc_At hc_V0 E 2 X 61 [(0, .ref (E.2.1 7)), (1, .int y1)] [] rl.2.1 am1 []) → (rl.1 ≠ 0 → hc_C hc_V0 E cX7_list 2 RX7 (some .int) d (.inr rl.1) rl.2.1 (l, A, am, [2, 3, 4, 6, 12, 22]) X) → ∀ am1, hc_At hc_V0 E 2 X 37 [(0, .ref (E.2.1 7)), (1, .int y1)] [] σ am1 [] := by
  have hd1 : 1 ≤ d := by omega
  have hd8 : 9 ≤ d := by omega
  have hd12 : 12 ≤ d := by omega
  intro m
  induction m with
  | zero =>
    intro σ y1 rl h
    cases h
  | succ m ih =>
    intro σ y1 rl h JX HX am1
    rw [lp_X7_list_37] at h
    refine hr_aload_n hC dX7_list_37 rfl ?_
    refine hr_bipush (v := 44) hC dX7_list_38 rfl ?_
    obtain ⟨r23, e24, h⟩ := hx_bind h
    refine hs_callV hC 7 [_] _ dX7_list_40 q1348 q1350 qs19 q321 q1351 np_X7 rfl OB_7 pd_X7_takes (Nat.le_of_ble_eq_true rfl) hd1 (okX7_takes l E A (d - 1) n (by omega)  e24 am1) (hc_rb rfl) rfl (fun am25 ha26 => ?_)
    refine hr_if_eq (x := _) hC 61 dX7_list_43 (by decide) (fun c28 => ?_) (fun c28 => ?_)
    · rw [if_pos c28] at h
      obtain rfl := Option.some.inj h
      exact hr_sub _ rfl (JX rfl am25)
    · rw [if_neg c28] at h
      refine hr_aload_n hC dX7_list_46 rfl ?_
      refine hr_gO 6 hC F7_1 rfl dX7_list_47 q566 ?_
      refine hr_iload_n hC dX7_list_50 rfl ?_
      refine hr_aload_n hC dX7_list_51 rfl ?_
      obtain ⟨r29, e30, h⟩ := hx_bind h
      by_cases z33 : r29.1 = 0
      · rw [hv_0 z33] at h
        refine hs_callV hC 7 [] _ dX7_list_52 q1352 q1354 qs20 q321 q1355 np_X7 rfl OB_7 pd_X7_constant (Nat.le_of_ble_eq_true rfl) hd1 (hc_M0 (r := r29) (okX7_constant l E A (d - 1) n k0 (by omega)  e30 am25) z33) (hc_rb rfl) rfl (fun am31 ha32 => ?_)
        obtain ⟨r34, e35, h⟩ := hx_bind h
        refine hs_callV0 hC 6 [_, _] _ dX7_list_55 q1412 q1378 q1379 q320 q1380 np_X6 rfl OB_6 pd_X6_hang (Nat.le_of_ble_eq_true rfl) hd1 (okX6_hang l E A (d - 1)  (by omega)  e35 am31) rfl ?_
        refine hr_goto hC 37 dX7_list_58 (by decide) ?_
        exact hr_sub _ rfl (ih _ _ _ h JX HX am31)
      · rw [hv_1 z33] at h
        obtain rfl := Option.some.inj h
        exact hs_callVx (HX z33) hem 7 [] _ dX7_list_52 q1352 q1354 qs20 q321 q1355 np_X7 rfl OB_7 pd_X7_constant (Nat.le_of_ble_eq_true rfl) hd1 (hc_M1 (r := r29) (okX7_constant l E A (d - 1) n k0 (by omega)  e30 am25) z33) (hc_rb rfl) rfl
set_option maxRecDepth 20000 in
set_option maxHeartbeats 4000000 in
theorem okX7_list (l : Launch) (E : hc_E) (A : Nat → Prop) (d : Nat) (n : Nat) (k0 : Nat) (hD : 1 * k0 + 18 ≤ d)  {σ : hc_St} {r : (Nat × Int32 × hc_St)} (h : fm_X7_list n k0  σ = some r) (am : Nat → Nat → Nat) : hc_M l hc_V0 yX7_list (ws_ yX7_list cX7_list 2 (some .int)) d E A [.ref (E.2.1 7)] am [2, 3, 4, 6, 12, 22] σ (hc_ot (fun v => some (.int v)) r) r.2.2 := by
  have hd1 : 1 ≤ d := by omega
  have hd8 : 9 ≤ d := by omega
  have hd12 : 12 ≤ d := by omega
  refine hc_enter2 (own := RX7) [(0, .ref (E.2.1 7))] pl_X7 rfl hc_V0_st hc_G0_nd rfl (Nat.le_of_ble_eq_true rfl) (fun X hC hem => ?_)
  have HX := fun z => hc_CX hC z
  unfold fm_X7_list at h
  refine hr_aload_n hC dX7_list_0 rfl ?_
  refine hr_gO 6 hC F7_1 rfl dX7_list_1 q566 ?_
  refine hr_bipush (v := 8) hC dX7_list_4 rfl ?_
  refine hr_iconst (v := 0) hC dX7_list_6 rfl ?_
  refine hr_iconst (v := 0) hC dX7_list_7 rfl ?_
  refine hr_aload_n hC dX7_list_8 rfl ?_
  refine hr_gO 5 hC F7_0 rfl dX7_list_9 q565 ?_
  obtain ⟨r1, e2, h⟩ := hx_bind h
  refine hs_callV0 hC 5 [] _ dX7_list_12 q1258 q1259 q1260 q319 q1261 np_X5 rfl OB_5 pd_X5_start (Nat.le_of_ble_eq_true rfl) hd1 (okX5_start l E A (d - 1)  (by omega)  e2 am) rfl ?_
  obtain ⟨r5, e6, h⟩ := hx_bind h
  refine hs_callV hC 6 [_, _, _, _] _ dX7_list_15 q1230 q1231 q1232 q320 q1233 np_X6 rfl OB_6 pd_X6_make (Nat.le_of_ble_eq_true rfl) hd1 (okX6_make l E A (d - 1)  (by omega)  e6 am) (hc_rb rfl) rfl (fun am7 ha8 => ?_)
  refine hr_istore_n hC dX7_list_18 (by decide) ?_
  refine hr_aload_n hC dX7_list_19 rfl ?_
  refine hr_bipush (v := 123) hC dX7_list_20 rfl ?_
  obtain ⟨r9, e10, h⟩ := hx_bind h
  by_cases z13 : r9.1 = 0
  · rw [ht_0 z13] at h
    refine hs_callV hC 7 [_] _ dX7_list_22 q1263 q1265 qs15 q321 q1266 np_X7 rfl OB_7 pd_X7_bracket (Nat.le_of_ble_eq_true rfl) hd1 (hc_M0 (r := r9) (okX7_bracket l E A (d - 1) n (by omega)  e10 am7) z13) (hc_rb rfl) rfl (fun am11 ha12 => ?_)
    refine hr_aload_n hC dX7_list_25 rfl ?_
    refine hr_gO 6 hC F7_1 rfl dX7_list_26 q566 ?_
    refine hr_iload_n hC dX7_list_29 rfl ?_
    refine hr_aload_n hC dX7_list_30 rfl ?_
    obtain ⟨r14, e15, h⟩ := hx_bind h
    by_cases z18 : r14.1 = 0
    · rw [ht_0 z18] at h
      refine hs_callV hC 7 [] _ dX7_list_31 q1352 q1354 qs20 q321 q1355 np_X7 rfl OB_7 pd_X7_constant (Nat.le_of_ble_eq_true rfl) hd1 (hc_M0 (r := r14) (okX7_constant l E A (d - 1) n k0 (by omega)  e15 am11) z18) (hc_rb rfl) rfl (fun am16 ha17 => ?_)
      obtain ⟨r19, e20, h⟩ := hx_bind h
      refine hs_callV0 hC 6 [_, _] _ dX7_list_34 q1412 q1378 q1379 q320 q1380 np_X6 rfl OB_6 pd_X6_hang (Nat.le_of_ble_eq_true rfl) hd1 (okX6_hang l E A (d - 1)  (by omega)  e20 am16) rfl ?_
      obtain ⟨r38, e39, h⟩ := hx_bind h
      refine hr_sub _ rfl (ll_X7_list_37 n k0 hD hem hC n _ _ _ e39 (fun z41 am42 => ?_) (fun z41 => ?_) am16)
      · rw [hu_0 z41] at h
        refine hr_aload_n hC dX7_list_61 rfl ?_
        refine hr_bipush (v := 125) hC dX7_list_62 rfl ?_
        obtain ⟨r43, e44, h⟩ := hx_bind h
        by_cases z47 : r43.1 = 0
        · rw [ht_0 z47] at h
          refine hs_callV hC 7 [_] _ dX7_list_64 q1438 q1440 qs33 q321 q1441 np_X7 rfl OB_7 pd_X7_closes (Nat.le_of_ble_eq_true rfl) hd1 (hc_M0 (r := r43) (okX7_closes l E A (d - 1) n (by omega)  e44 am42) z47) (hc_rb rfl) rfl (fun am45 ha46 => ?_)
          refine hr_iload_n hC dX7_list_67 rfl ?_
          obtain rfl := Option.some.inj h
          exact hr_iret hC dX7_list_68
        · rw [ht_1 z47] at h
          obtain rfl := Option.some.inj h
          exact hs_callVx (HX z47) hem 7 [_] _ dX7_list_64 q1438 q1440 qs33 q321 q1441 np_X7 rfl OB_7 pd_X7_closes (Nat.le_of_ble_eq_true rfl) hd1 (hc_M1 (r := r43) (okX7_closes l E A (d - 1) n (by omega)  e44 am42) z47) (hc_rb rfl) rfl
      · rw [hu_1 z41] at h
        obtain rfl := Option.some.inj h
        exact HX z41
    · rw [ht_1 z18] at h
      obtain rfl := Option.some.inj h
      exact hs_callVx (HX z18) hem 7 [] _ dX7_list_31 q1352 q1354 qs20 q321 q1355 np_X7 rfl OB_7 pd_X7_constant (Nat.le_of_ble_eq_true rfl) hd1 (hc_M1 (r := r14) (okX7_constant l E A (d - 1) n k0 (by omega)  e15 am11) z18) (hc_rb rfl) rfl
  · rw [ht_1 z13] at h
    obtain rfl := Option.some.inj h
    exact hs_callVx (HX z13) hem 7 [_] _ dX7_list_22 q1263 q1265 qs15 q321 q1266 np_X7 rfl OB_7 pd_X7_bracket (Nat.le_of_ble_eq_true rfl) hd1 (hc_M1 (r := r9) (okX7_bracket l E A (d - 1) n (by omega)  e10 am7) z13) (hc_rb rfl) rfl
/-- HomeCompiler$Reader.variable(II)I -/
def fm_X7_variable (n : Nat) (k0 : Nat) (x1 : Int32) (x2 : Int32) (σ : hc_St) : Option (Nat × Int32 × hc_St) := Option.bind (fm_X6_make 7 0 x1 x2 σ) fun r1 => Option.bind (fm_X7_is 91 r1.2) fun r5 => Option.bind (α := Nat × hc_St × Int32) (if r5 = 0 then (Option.bind (fm_X7_takes n 61 r1.2) fun r15 => if r15.1 = 0 then (some (0, r15.2, (0 : Int32))) else (Option.bind (fm_X5_start  r15.2) fun r21 => Option.bind (fm_X7_expression n k0 r15.2) fun r25 => hv r25 (0) <| Option.bind (fm_X6_over 12 0 r25.2.1 r25.2.2) fun r30 => Option.bind (fm_X6_setPlace r30.1 r21 r30.2) fun r34 => Option.bind (fm_X6_hang r1.1 r30.1 r34) fun r38 => some (0, r38, (0 : Int32)))) else (Option.bind (fm_X7_bracket n 91 r1.2) fun r42 => hv r42 (0) <| Option.bind (fm_X7_constant n k0 r42.2.2) fun r47 => hv r47 (0) <| Option.bind (fm_X7_closes n 93 r47.2.2) fun r52 => hv r52 (0) <| Option.bind (fm_X6_setOp r1.1 1 r52.2.2) fun r57 => Option.bind (fm_X6_hang r1.1 r47.2.1 r57) fun r61 => Option.bind (fm_X7_takes n 61 r61) fun r65 => Option.bind (α := Nat × hc_St × Int32) (if r65.1 = 0 then (some (0, r65.2, (0 : Int32))) else (Option.bind (fm_X7_is 3 r65.2) fun r75 => Option.bind (α := Nat × hc_St × Int32) (if r75 = 0 then (Option.bind (fm_X7_list n k0 r65.2) fun r85 => hv r85 (0) <| some (0, r85.2.2, r85.2.1)) else (Option.bind (fm_X7_string n r65.2) fun r90 => some (0, r90.2, r90.1))) fun r81 => hw r81 (0) <| Option.bind (fm_X6_hang r1.1 r81.2.2 r81.2.1) fun r95 => some (0, r95, (0 : Int32)))) fun r71 => hw r71 (0) <| some (0, r71.2.1, (0 : Int32)))) fun r11 => hu r11 <| some (0, r1.1, r11.2.1)
set_option maxRecDepth 20000 in
set_option maxHeartbeats 4000000 in
theorem okX7_variable (l : Launch) (E : hc_E) (A : Nat → Prop) (d : Nat) (n : Nat) (k0 : Nat) (hD : 1 * k0 + 19 ≤ d) {x1 : Int32} {x2 : Int32} {σ : hc_St} {r : (Nat × Int32 × hc_St)} (h : fm_X7_variable n k0 x1 x2 σ = some r) (am : Nat → Nat → Nat) : hc_M l hc_V0 yX7_variable (ws_ yX7_variable cX7_variable 6 (some .int)) d E A [.ref (E.2.1 7), .int x1, .int x2] am [2, 3, 4, 6, 12, 22] σ (hc_ot (fun v => some (.int v)) r) r.2.2 := by
  have hd1 : 1 ≤ d := by omega
  have hd8 : 9 ≤ d := by omega
  have hd12 : 12 ≤ d := by omega
  refine hc_enter2 (own := RX7) [(0, .ref (E.2.1 7)), (1, .int x1), (2, .int x2)] pl_X7 rfl hc_V0_st hc_G0_nd rfl (Nat.le_of_ble_eq_true rfl) (fun X hC hem => ?_)
  have HX := fun z => hc_CX hC z
  unfold fm_X7_variable at h
  refine hr_aload_n hC dX7_variable_0 rfl ?_
  refine hr_gO 6 hC F7_1 rfl dX7_variable_1 q566 ?_
  refine hr_bipush (v := 7) hC dX7_variable_4 rfl ?_
  refine hr_iconst (v := 0) hC dX7_variable_6 rfl ?_
  refine hr_iload_n hC dX7_variable_7 rfl ?_
  refine hr_iload_n hC dX7_variable_8 rfl ?_
  obtain ⟨r1, e2, h⟩ := hx_bind h
  refine hs_callV hC 6 [_, _, _, _] _ dX7_variable_9 q1230 q1231 q1232 q320 q1233 np_X6 rfl OB_6 pd_X6_make (Nat.le_of_ble_eq_true rfl) hd1 (okX6_make l E A (d - 1)  (by omega)  e2 am) (hc_rb rfl) rfl (fun am3 ha4 => ?_)
  refine hr_istore_n hC dX7_variable_12 (by decide) ?_
  refine hr_aload_n hC dX7_variable_13 rfl ?_
  refine hr_bipush (v := 91) hC dX7_variable_14 rfl ?_
  obtain ⟨r5, e6, h⟩ := hx_bind h
  refine hs_callV0 hC 7 [_] _ dX7_variable_16 q1242 q1244 qs12 q321 q1245 np_X7 rfl OB_7 pd_X7_is (Nat.le_of_ble_eq_true rfl) hd1 (okX7_is l E A (d - 1)  (by omega)  e6 am3) rfl ?_
  obtain ⟨r11, e12, h⟩ := hx_bind h
  have J13 : r11.1 = 0 → ∀ am100, hc_At hc_V0 E 6 X 153 [(3, .int r1.1)] [] r11.2.1 am100 [] := by
    intro z14 am100
    rw [hu_0 z14] at h
    refine hr_iload_n hC dX7_variable_153 rfl ?_
    obtain rfl := Option.some.inj h
    exact hr_iret hC dX7_variable_154
  have HX : r11.1 ≠ 0 → hc_C hc_V0 E cX7_variable 6 RX7 (some .int) d (.inr r11.1) r11.2.1 (l, A, am, [2, 3, 4, 6, 12, 22]) X := by
    intro z14
    rw [hu_1 z14] at h
    obtain rfl := Option.some.inj h
    exact HX z14
  clear h
  have h := e12
  refine hr_if_eq (x := _) hC 98 dX7_variable_19 (by decide) (fun c10 => ?_) (fun c10 => ?_)
  · rw [if_pos c10] at h
    refine hr_aload_n hC dX7_variable_98 rfl ?_
    refine hr_bipush (v := 61) hC dX7_variable_99 rfl ?_
    obtain ⟨r15, e16, h⟩ := hx_bind h
    refine hs_callV hC 7 [_] _ dX7_variable_101 q1348 q1350 qs19 q321 q1351 np_X7 rfl OB_7 pd_X7_takes (Nat.le_of_ble_eq_true rfl) hd1 (okX7_takes l E A (d - 1) n (by omega)  e16 am3) (hc_rb rfl) rfl (fun am17 ha18 => ?_)
    refine hr_if_eq (x := _) hC 153 dX7_variable_104 (by decide) (fun c20 => ?_) (fun c20 => ?_)
    · rw [if_pos c20] at h
      obtain rfl := Option.some.inj h
      exact hr_sub _ rfl (J13 rfl am17)
    · rw [if_neg c20] at h
      refine hr_aload_n hC dX7_variable_107 rfl ?_
      refine hr_gO 5 hC F7_0 rfl dX7_variable_108 q565 ?_
      obtain ⟨r21, e22, h⟩ := hx_bind h
      refine hs_callV0 hC 5 [] _ dX7_variable_111 q1258 q1259 q1260 q319 q1261 np_X5 rfl OB_5 pd_X5_start (Nat.le_of_ble_eq_true rfl) hd1 (okX5_start l E A (d - 1)  (by omega)  e22 am17) rfl ?_
      refine hr_istore hC dX7_variable_114 (by decide) ?_
      refine hr_aload_n hC dX7_variable_116 rfl ?_
      refine hr_gO 6 hC F7_1 rfl dX7_variable_117 q566 ?_
      refine hr_bipush (v := 12) hC dX7_variable_120 rfl ?_
      refine hr_iconst (v := 0) hC dX7_variable_122 rfl ?_
      refine hr_aload_n hC dX7_variable_123 rfl ?_
      obtain ⟨r25, e26, h⟩ := hx_bind h
      by_cases z29 : r25.1 = 0
      · rw [hv_0 z29] at h
        refine hs_callV hC 7 [] _ dX7_variable_124 q1396 q1398 qs25 q321 q1399 np_X7 rfl OB_7 pd_X7_expression (Nat.le_of_ble_eq_true rfl) hd1 (hc_M0 (r := r25) (okX7_expression l E A (d - 1) n k0 (by omega)  e26 am17) z29) (hc_rb rfl) rfl (fun am27 ha28 => ?_)
        obtain ⟨r30, e31, h⟩ := hx_bind h
        refine hs_callV hC 6 [_, _, _] _ dX7_variable_127 q1372 q1373 q1374 q320 q1375 np_X6 rfl OB_6 pd_X6_over (Nat.le_of_ble_eq_true rfl) hd1 (okX6_over l E A (d - 1)  (by omega)  e31 am27) (hc_rb rfl) rfl (fun am32 ha33 => ?_)
        refine hr_istore hC dX7_variable_130 (by decide) ?_
        refine hr_aload_n hC dX7_variable_132 rfl ?_
        refine hr_gO 6 hC F7_1 rfl dX7_variable_133 q566 ?_
        refine hr_iload hC dX7_variable_136 rfl ?_
        refine hr_iload hC dX7_variable_138 rfl ?_
        obtain ⟨r34, e35, h⟩ := hx_bind h
        refine hs_callV0 hC 6 [_, _] _ dX7_variable_140 q1384 q1385 q1386 q320 q1387 np_X6 rfl OB_6 pd_X6_setPlace (Nat.le_of_ble_eq_true rfl) hd1 (okX6_setPlace l E A (d - 1)  (by omega)  e35 am32) rfl ?_
        refine hr_aload_n hC dX7_variable_143 rfl ?_
        refine hr_gO 6 hC F7_1 rfl dX7_variable_144 q566 ?_
        refine hr_iload_n hC dX7_variable_147 rfl ?_
        refine hr_iload hC dX7_variable_148 rfl ?_
        obtain ⟨r38, e39, h⟩ := hx_bind h
        refine hs_callV0 hC 6 [_, _] _ dX7_variable_150 q1412 q1378 q1379 q320 q1380 np_X6 rfl OB_6 pd_X6_hang (Nat.le_of_ble_eq_true rfl) hd1 (okX6_hang l E A (d - 1)  (by omega)  e39 am32) rfl ?_
        obtain rfl := Option.some.inj h
        exact hr_sub _ rfl (J13 rfl am32)
      · rw [hv_1 z29] at h
        obtain rfl := Option.some.inj h
        exact hs_callVx (HX z29) hem 7 [] _ dX7_variable_124 q1396 q1398 qs25 q321 q1399 np_X7 rfl OB_7 pd_X7_expression (Nat.le_of_ble_eq_true rfl) hd1 (hc_M1 (r := r25) (okX7_expression l E A (d - 1) n k0 (by omega)  e26 am17) z29) (hc_rb rfl) rfl
  · rw [if_neg c10] at h
    refine hr_aload_n hC dX7_variable_22 rfl ?_
    refine hr_bipush (v := 91) hC dX7_variable_23 rfl ?_
    obtain ⟨r42, e43, h⟩ := hx_bind h
    by_cases z46 : r42.1 = 0
    · rw [hv_0 z46] at h
      refine hs_callV hC 7 [_] _ dX7_variable_25 q1263 q1265 qs15 q321 q1266 np_X7 rfl OB_7 pd_X7_bracket (Nat.le_of_ble_eq_true rfl) hd1 (hc_M0 (r := r42) (okX7_bracket l E A (d - 1) n (by omega)  e43 am3) z46) (hc_rb rfl) rfl (fun am44 ha45 => ?_)
      refine hr_aload_n hC dX7_variable_28 rfl ?_
      obtain ⟨r47, e48, h⟩ := hx_bind h
      by_cases z51 : r47.1 = 0
      · rw [hv_0 z51] at h
        refine hs_callV hC 7 [] _ dX7_variable_29 q1352 q1354 qs20 q321 q1355 np_X7 rfl OB_7 pd_X7_constant (Nat.le_of_ble_eq_true rfl) hd1 (hc_M0 (r := r47) (okX7_constant l E A (d - 1) n k0 (by omega)  e48 am44) z51) (hc_rb rfl) rfl (fun am49 ha50 => ?_)
        refine hr_istore hC dX7_variable_32 (by decide) ?_
        refine hr_aload_n hC dX7_variable_34 rfl ?_
        refine hr_bipush (v := 93) hC dX7_variable_35 rfl ?_
        obtain ⟨r52, e53, h⟩ := hx_bind h
        by_cases z56 : r52.1 = 0
        · rw [hv_0 z56] at h
          refine hs_callV hC 7 [_] _ dX7_variable_37 q1438 q1440 qs33 q321 q1441 np_X7 rfl OB_7 pd_X7_closes (Nat.le_of_ble_eq_true rfl) hd1 (hc_M0 (r := r52) (okX7_closes l E A (d - 1) n (by omega)  e53 am49) z56) (hc_rb rfl) rfl (fun am54 ha55 => ?_)
          refine hr_aload_n hC dX7_variable_40 rfl ?_
          refine hr_gO 6 hC F7_1 rfl dX7_variable_41 q566 ?_
          refine hr_iload_n hC dX7_variable_44 rfl ?_
          refine hr_iconst (v := 1) hC dX7_variable_45 rfl ?_
          obtain ⟨r57, e58, h⟩ := hx_bind h
          refine hs_callV0 hC 6 [_, _] _ dX7_variable_46 q1486 q1487 q1488 q320 q1489 np_X6 rfl OB_6 pd_X6_setOp (Nat.le_of_ble_eq_true rfl) hd1 (okX6_setOp l E A (d - 1)  (by omega)  e58 am54) rfl ?_
          refine hr_aload_n hC dX7_variable_49 rfl ?_
          refine hr_gO 6 hC F7_1 rfl dX7_variable_50 q566 ?_
          refine hr_iload_n hC dX7_variable_53 rfl ?_
          refine hr_iload hC dX7_variable_54 rfl ?_
          obtain ⟨r61, e62, h⟩ := hx_bind h
          refine hs_callV0 hC 6 [_, _] _ dX7_variable_56 q1412 q1378 q1379 q320 q1380 np_X6 rfl OB_6 pd_X6_hang (Nat.le_of_ble_eq_true rfl) hd1 (okX6_hang l E A (d - 1)  (by omega)  e62 am54) rfl ?_
          refine hr_aload_n hC dX7_variable_59 rfl ?_
          refine hr_bipush (v := 61) hC dX7_variable_60 rfl ?_
          obtain ⟨r65, e66, h⟩ := hx_bind h
          refine hs_callV hC 7 [_] _ dX7_variable_62 q1348 q1350 qs19 q321 q1351 np_X7 rfl OB_7 pd_X7_takes (Nat.le_of_ble_eq_true rfl) hd1 (okX7_takes l E A (d - 1) n (by omega)  e66 am54) (hc_rb rfl) rfl (fun am67 ha68 => ?_)
          obtain ⟨r71, e72, h⟩ := hx_bind h
          have J73 : r71.1 = 0 → ∀ am99, hc_At hc_V0 E 6 X 95 [(3, .int r1.1)] [] r71.2.1 am99 [] := by
            intro z74 am99
            rw [hw_0 z74] at h
            refine hr_goto hC 153 dX7_variable_95 (by decide) ?_
            obtain rfl := Option.some.inj h
            exact hr_sub _ rfl (J13 rfl am99)
          have HX : r71.1 ≠ 0 → hc_C hc_V0 E cX7_variable 6 RX7 (some .int) d (.inr r71.1) r71.2.1 (l, A, am, [2, 3, 4, 6, 12, 22]) X := by
            intro z74
            rw [hw_1 z74] at h
            obtain rfl := Option.some.inj h
            exact HX z74
          clear h
          have h := e72
          refine hr_if_eq (x := _) hC 95 dX7_variable_65 (by decide) (fun c70 => ?_) (fun c70 => ?_)
          · rw [if_pos c70] at h
            obtain rfl := Option.some.inj h
            exact hr_sub _ rfl (J73 rfl am67)
          · rw [if_neg c70] at h
            refine hr_aload_n hC dX7_variable_68 rfl ?_
            refine hr_gO 6 hC F7_1 rfl dX7_variable_69 q566 ?_
            refine hr_iload_n hC dX7_variable_72 rfl ?_
            refine hr_aload_n hC dX7_variable_73 rfl ?_
            refine hr_iconst (v := 3) hC dX7_variable_74 rfl ?_
            obtain ⟨r75, e76, h⟩ := hx_bind h
            refine hs_callV0 hC 7 [_] _ dX7_variable_75 q1242 q1244 qs12 q321 q1245 np_X7 rfl OB_7 pd_X7_is (Nat.le_of_ble_eq_true rfl) hd1 (okX7_is l E A (d - 1)  (by omega)  e76 am67) rfl ?_
            obtain ⟨r81, e82, h⟩ := hx_bind h
            have J83 : r81.1 = 0 → ∀ am94, hc_At hc_V0 E 6 X 92 [(3, .int r1.1)] [.int r81.2.2, .int r1.1, .ref (E.2.1 6)] r81.2.1 am94 [] := by
              intro z84 am94
              rw [hw_0 z84] at h
              obtain ⟨r95, e96, h⟩ := hx_bind h
              refine hs_callV0 hC 6 [_, _] _ dX7_variable_92 q1412 q1378 q1379 q320 q1380 np_X6 rfl OB_6 pd_X6_hang (Nat.le_of_ble_eq_true rfl) hd1 (okX6_hang l E A (d - 1)  (by omega)  e96 am94) rfl ?_
              obtain rfl := Option.some.inj h
              exact hr_sub _ rfl (J73 rfl am94)
            have HX : r81.1 ≠ 0 → hc_C hc_V0 E cX7_variable 6 RX7 (some .int) d (.inr r81.1) r81.2.1 (l, A, am, [2, 3, 4, 6, 12, 22]) X := by
              intro z84
              rw [hw_1 z84] at h
              obtain rfl := Option.some.inj h
              exact HX z84
            clear h
            have h := e82
            refine hr_if_eq (x := _) hC 88 dX7_variable_78 (by decide) (fun c80 => ?_) (fun c80 => ?_)
            · rw [if_pos c80] at h
              refine hr_aload_n hC dX7_variable_88 rfl ?_
              obtain ⟨r85, e86, h⟩ := hx_bind h
              by_cases z89 : r85.1 = 0
              · rw [hv_0 z89] at h
                refine hs_callV hC 7 [] _ dX7_variable_89 q1499 q1501 qs45 q321 q1502 np_X7 rfl OB_7 pd_X7_list (Nat.le_of_ble_eq_true rfl) hd1 (hc_M0 (r := r85) (okX7_list l E A (d - 1) n k0 (by omega)  e86 am67) z89) (hc_rb rfl) rfl (fun am87 ha88 => ?_)
                obtain rfl := Option.some.inj h
                exact hr_sub _ rfl (J83 rfl am87)
              · rw [hv_1 z89] at h
                obtain rfl := Option.some.inj h
                exact hs_callVx (HX z89) hem 7 [] _ dX7_variable_89 q1499 q1501 qs45 q321 q1502 np_X7 rfl OB_7 pd_X7_list (Nat.le_of_ble_eq_true rfl) hd1 (hc_M1 (r := r85) (okX7_list l E A (d - 1) n k0 (by omega)  e86 am67) z89) (hc_rb rfl) rfl
            · rw [if_neg c80] at h
              refine hr_aload_n hC dX7_variable_81 rfl ?_
              obtain ⟨r90, e91, h⟩ := hx_bind h
              refine hs_callV hC 7 [] _ dX7_variable_82 q1490 q1492 qs44 q321 q1493 np_X7 rfl OB_7 pd_X7_string (Nat.le_of_ble_eq_true rfl) hd1 (okX7_string l E A (d - 1) n (by omega)  e91 am67) (hc_rb rfl) rfl (fun am92 ha93 => ?_)
              refine hr_goto hC 92 dX7_variable_85 (by decide) ?_
              obtain rfl := Option.some.inj h
              exact hr_sub _ rfl (J83 rfl am92)
        · rw [hv_1 z56] at h
          obtain rfl := Option.some.inj h
          exact hs_callVx (HX z56) hem 7 [_] _ dX7_variable_37 q1438 q1440 qs33 q321 q1441 np_X7 rfl OB_7 pd_X7_closes (Nat.le_of_ble_eq_true rfl) hd1 (hc_M1 (r := r52) (okX7_closes l E A (d - 1) n (by omega)  e53 am49) z56) (hc_rb rfl) rfl
      · rw [hv_1 z51] at h
        obtain rfl := Option.some.inj h
        exact hs_callVx (HX z51) hem 7 [] _ dX7_variable_29 q1352 q1354 qs20 q321 q1355 np_X7 rfl OB_7 pd_X7_constant (Nat.le_of_ble_eq_true rfl) hd1 (hc_M1 (r := r47) (okX7_constant l E A (d - 1) n k0 (by omega)  e48 am44) z51) (hc_rb rfl) rfl
    · rw [hv_1 z46] at h
      obtain rfl := Option.some.inj h
      exact hs_callVx (HX z46) hem 7 [_] _ dX7_variable_25 q1263 q1265 qs15 q321 q1266 np_X7 rfl OB_7 pd_X7_bracket (Nat.le_of_ble_eq_true rfl) hd1 (hc_M1 (r := r42) (okX7_bracket l E A (d - 1) n (by omega)  e43 am3) z46) (hc_rb rfl) rfl
def lp_X7_variables_31 (n : Nat) (k0 : Nat) : Nat → Int32 → Int32 → hc_St → Option (Nat × hc_St × Int32)
  | 0, _, _, _ => none
  | m + 1, y1, y2, σ => if y2 = 0 then (some (0, σ, 0)) else (Option.bind (fm_X5_next n σ) fun r15 => Option.bind (fm_X5_start  r15) fun r19 => Option.bind (fm_X7_name n r15) fun r23 => hv r23 (0) <| Option.bind (fm_X7_variable n k0 r23.2.1 r19 r23.2.2) fun r28 => hv r28 (0) <| Option.bind (fm_X6_hang y1 r28.2.1 r28.2.2) fun r33 => Option.bind (fm_X7_is 44 r33) fun r37 => lp_X7_variables_31 n k0 m y1 r37 r33)
/-- HomeCompiler$Reader.variables()I -/
def fm_X7_variables (n : Nat) (k0 : Nat)  (σ : hc_St) : Option (Nat × Int32 × hc_St) := Option.bind (fm_X5_token  σ) fun r1 => Option.bind (fm_X5_start  σ) fun r5 => Option.bind (fm_X6_make 6 ((r1 - 200)) 0 r5 σ) fun r9 => Option.bind (lp_X7_variables_31 n k0 n r9.1 1 r9.2) fun r41 => hu r41 <| Option.bind (fm_X7_take n 59 r41.2.1) fun r46 => ht r46 <| some (0, r9.1, r46.2.2)
set_option maxRecDepth 20000 in
set_option maxHeartbeats 4000000 in
theorem ll_X7_variables_31 {l : Launch} {E : hc_E} {A : Nat → Prop} {am : Nat → Nat → Nat} {d : Nat} {X : hc_X} (n : Nat) (k0 : Nat) (hD : 1 * k0 + 20 ≤ d) (hem : X.2.2.2.2.2.2.2.2.2.1.exceptionTable.isEmpty = true) {oc : hc_Oc} {σe : hc_St} (hC : hc_C hc_V0 E cX7_variables 5 RX7 (some .int) d oc σe (l, A, am, [2, 3, 4, 6, 12, 22]) X) : ∀ (m : Nat) (σ : hc_St) (y1 : Int32) (y2 : Int32) (rl : Nat × hc_St × Int32), lp_X7_variables_31 n k0 m y1 y2 σ = some rl → (rl.1 = 0 → ∀ am1, hc_At hc_V0 E 5 X 81 [(0, .ref (E.2.1 7)), (1, .int y1)] [] rl.2.1 am1 []) → (rl.1 ≠ 0 → hc_C hc_V0 E cX7_variables 5 RX7 (some .int) d (.inr rl.1) rl.2.1 (l, A, am, [2, 3, 4, 6, 12, 22]) X) → ∀ am1, hc_At hc_V0 E 5 X 31 [(0, .ref (E.2.1 7)), (1, .int y1), (2, .int y2)] [] σ am1 [] := by
  have hd1 : 1 ≤ d := by omega
  have hd8 : 9 ≤ d := by omega
  have hd12 : 12 ≤ d := by omega
  intro m
  induction m with
  | zero =>
    intro σ y1 y2 rl h
    cases h
  | succ m ih =>
    intro σ y1 y2 rl h JX HX am1
    rw [lp_X7_variables_31] at h
    refine hr_iload_n hC dX7_variables_31 rfl ?_
    refine hr_if_eq (x := _) hC 81 dX7_variables_32 (by decide) (fun c14 => ?_) (fun c14 => ?_)
    · rw [if_pos c14] at h
      obtain rfl := Option.some.inj h
      exact hr_sub _ rfl (JX rfl am1)
    · rw [if_neg c14] at h
      refine hr_aload_n hC dX7_variables_35 rfl ?_
      refine hr_gO 5 hC F7_0 rfl dX7_variables_36 q565 ?_
      obtain ⟨r15, e16, h⟩ := hx_bind h
      refine hs_callV hC 5 [] _ dX7_variables_39 q1262 q1076 q1077 q319 q1078 np_X5 rfl OB_5 pd_X5_next (Nat.le_of_ble_eq_true rfl) hd1 (okX5_next l E A (d - 1) n (by omega)  e16 am1) (hc_rb rfl) rfl (fun am17 ha18 => ?_)
      refine hr_aload_n hC dX7_variables_42 rfl ?_
      refine hr_gO 5 hC F7_0 rfl dX7_variables_43 q565 ?_
      obtain ⟨r19, e20, h⟩ := hx_bind h
      refine hs_callV0 hC 5 [] _ dX7_variables_46 q1258 q1259 q1260 q319 q1261 np_X5 rfl OB_5 pd_X5_start (Nat.le_of_ble_eq_true rfl) hd1 (okX5_start l E A (d - 1)  (by omega)  e20 am17) rfl ?_
      refine hr_istore_n hC dX7_variables_49 (by decide) ?_
      refine hr_aload_n hC dX7_variables_50 rfl ?_
      obtain ⟨r23, e24, h⟩ := hx_bind h
      by_cases z27 : r23.1 = 0
      · rw [hv_0 z27] at h
        refine hs_callV hC 7 [] _ dX7_variables_51 q1340 q1342 qs18 q321 q1343 np_X7 rfl OB_7 pd_X7_name (Nat.le_of_ble_eq_true rfl) hd1 (hc_M0 (r := r23) (okX7_name l E A (d - 1) n (by omega)  e24 am17) z27) (hc_rb rfl) rfl (fun am25 ha26 => ?_)
        refine hr_istore hC dX7_variables_54 (by decide) ?_
        refine hr_aload_n hC dX7_variables_56 rfl ?_
        refine hr_gO 6 hC F7_1 rfl dX7_variables_57 q566 ?_
        refine hr_iload_n hC dX7_variables_60 rfl ?_
        refine hr_aload_n hC dX7_variables_61 rfl ?_
        refine hr_iload hC dX7_variables_62 rfl ?_
        refine hr_iload_n hC dX7_variables_64 rfl ?_
        obtain ⟨r28, e29, h⟩ := hx_bind h
        by_cases z32 : r28.1 = 0
        · rw [hv_0 z32] at h
          refine hs_callV hC 7 [_, _] _ dX7_variables_65 q1482 q1484 qs43 q321 q1485 np_X7 rfl OB_7 pd_X7_variable (Nat.le_of_ble_eq_true rfl) hd1 (hc_M0 (r := r28) (okX7_variable l E A (d - 1) n k0 (by omega)  e29 am25) z32) (hc_rb rfl) rfl (fun am30 ha31 => ?_)
          obtain ⟨r33, e34, h⟩ := hx_bind h
          refine hs_callV0 hC 6 [_, _] _ dX7_variables_68 q1412 q1378 q1379 q320 q1380 np_X6 rfl OB_6 pd_X6_hang (Nat.le_of_ble_eq_true rfl) hd1 (okX6_hang l E A (d - 1)  (by omega)  e34 am30) rfl ?_
          refine hr_aload_n hC dX7_variables_71 rfl ?_
          refine hr_bipush (v := 44) hC dX7_variables_72 rfl ?_
          obtain ⟨r37, e38, h⟩ := hx_bind h
          refine hs_callV0 hC 7 [_] _ dX7_variables_74 q1242 q1244 qs12 q321 q1245 np_X7 rfl OB_7 pd_X7_is (Nat.le_of_ble_eq_true rfl) hd1 (okX7_is l E A (d - 1)  (by omega)  e38 am30) rfl ?_
          refine hr_istore_n hC dX7_variables_77 (by decide) ?_
          refine hr_goto hC 31 dX7_variables_78 (by decide) ?_
          exact hr_sub _ rfl (ih _ _ _ _ h JX HX am30)
        · rw [hv_1 z32] at h
          obtain rfl := Option.some.inj h
          exact hs_callVx (HX z32) hem 7 [_, _] _ dX7_variables_65 q1482 q1484 qs43 q321 q1485 np_X7 rfl OB_7 pd_X7_variable (Nat.le_of_ble_eq_true rfl) hd1 (hc_M1 (r := r28) (okX7_variable l E A (d - 1) n k0 (by omega)  e29 am25) z32) (hc_rb rfl) rfl
      · rw [hv_1 z27] at h
        obtain rfl := Option.some.inj h
        exact hs_callVx (HX z27) hem 7 [] _ dX7_variables_51 q1340 q1342 qs18 q321 q1343 np_X7 rfl OB_7 pd_X7_name (Nat.le_of_ble_eq_true rfl) hd1 (hc_M1 (r := r23) (okX7_name l E A (d - 1) n (by omega)  e24 am17) z27) (hc_rb rfl) rfl
set_option maxRecDepth 20000 in
set_option maxHeartbeats 4000000 in
theorem okX7_variables (l : Launch) (E : hc_E) (A : Nat → Prop) (d : Nat) (n : Nat) (k0 : Nat) (hD : 1 * k0 + 20 ≤ d)  {σ : hc_St} {r : (Nat × Int32 × hc_St)} (h : fm_X7_variables n k0  σ = some r) (am : Nat → Nat → Nat) : hc_M l hc_V0 yX7_variables (ws_ yX7_variables cX7_variables 5 (some .int)) d E A [.ref (E.2.1 7)] am [2, 3, 4, 6, 12, 22] σ (hc_ot (fun v => some (.int v)) r) r.2.2 := by
  have hd1 : 1 ≤ d := by omega
  have hd8 : 9 ≤ d := by omega
  have hd12 : 12 ≤ d := by omega
  refine hc_enter2 (own := RX7) [(0, .ref (E.2.1 7))] pl_X7 rfl hc_V0_st hc_G0_nd rfl (Nat.le_of_ble_eq_true rfl) (fun X hC hem => ?_)
  have HX := fun z => hc_CX hC z
  unfold fm_X7_variables at h
  refine hr_aload_n hC dX7_variables_0 rfl ?_
  refine hr_gO 6 hC F7_1 rfl dX7_variables_1 q566 ?_
  refine hr_bipush (v := 6) hC dX7_variables_4 rfl ?_
  refine hr_aload_n hC dX7_variables_6 rfl ?_
  refine hr_gO 5 hC F7_0 rfl dX7_variables_7 q565 ?_
  obtain ⟨r1, e2, h⟩ := hx_bind h
  refine hs_callV0 hC 5 [] _ dX7_variables_10 q1246 q1247 q1248 q319 q1249 np_X5 rfl OB_5 pd_X5_token (Nat.le_of_ble_eq_true rfl) hd1 (okX5_token l E A (d - 1)  (by omega)  e2 am) rfl ?_
  refine hr_sipush (v := 200) hC dX7_variables_13 rfl ?_
  refine hr_isub hC dX7_variables_16 ?_
  refine hr_iconst (v := 0) hC dX7_variables_17 rfl ?_
  refine hr_aload_n hC dX7_variables_18 rfl ?_
  refine hr_gO 5 hC F7_0 rfl dX7_variables_19 q565 ?_
  obtain ⟨r5, e6, h⟩ := hx_bind h
  refine hs_callV0 hC 5 [] _ dX7_variables_22 q1258 q1259 q1260 q319 q1261 np_X5 rfl OB_5 pd_X5_start (Nat.le_of_ble_eq_true rfl) hd1 (okX5_start l E A (d - 1)  (by omega)  e6 am) rfl ?_
  obtain ⟨r9, e10, h⟩ := hx_bind h
  refine hs_callV hC 6 [_, _, _, _] _ dX7_variables_25 q1230 q1231 q1232 q320 q1233 np_X6 rfl OB_6 pd_X6_make (Nat.le_of_ble_eq_true rfl) hd1 (okX6_make l E A (d - 1)  (by omega)  e10 am) (hc_rb rfl) rfl (fun am11 ha12 => ?_)
  refine hr_istore_n hC dX7_variables_28 (by decide) ?_
  refine hr_iconst (v := 1) hC dX7_variables_29 rfl ?_
  refine hr_istore_n hC dX7_variables_30 (by decide) ?_
  obtain ⟨r41, e42, h⟩ := hx_bind h
  refine hr_sub _ rfl (ll_X7_variables_31 n k0 hD hem hC n _ _ _ _ e42 (fun z44 am45 => ?_) (fun z44 => ?_) am11)
  · rw [hu_0 z44] at h
    refine hr_aload_n hC dX7_variables_81 rfl ?_
    refine hr_bipush (v := 59) hC dX7_variables_82 rfl ?_
    obtain ⟨r46, e47, h⟩ := hx_bind h
    by_cases z50 : r46.1 = 0
    · rw [ht_0 z50] at h
      refine hs_callV hC 7 [_] _ dX7_variables_84 q1434 q1436 qs32 q321 q1437 np_X7 rfl OB_7 pd_X7_take (Nat.le_of_ble_eq_true rfl) hd1 (hc_M0 (r := r46) (okX7_take l E A (d - 1) n (by omega)  e47 am45) z50) (hc_rb rfl) rfl (fun am48 ha49 => ?_)
      refine hr_iload_n hC dX7_variables_87 rfl ?_
      obtain rfl := Option.some.inj h
      exact hr_iret hC dX7_variables_88
    · rw [ht_1 z50] at h
      obtain rfl := Option.some.inj h
      exact hs_callVx (HX z50) hem 7 [_] _ dX7_variables_84 q1434 q1436 qs32 q321 q1437 np_X7 rfl OB_7 pd_X7_take (Nat.le_of_ble_eq_true rfl) hd1 (hc_M1 (r := r46) (okX7_take l E A (d - 1) n (by omega)  e47 am45) z50) (hc_rb rfl) rfl
  · rw [hu_1 z44] at h
    obtain rfl := Option.some.inj h
    exact HX z44
/-- HomeCompiler$Reader.condition()I -/
def fm_X7_condition (n : Nat) (k0 : Nat)  (σ : hc_St) : Option (Nat × Int32 × hc_St) := Option.bind (fm_X7_bracket n 40 σ) fun r1 => ht r1 <| Option.bind (fm_X7_expression n k0 r1.2.2) fun r6 => ht r6 <| Option.bind (fm_X7_closes n 41 r6.2.2) fun r11 => ht r11 <| some (0, r6.2.1, r11.2.2)
set_option maxRecDepth 20000 in
set_option maxHeartbeats 4000000 in
theorem okX7_condition (l : Launch) (E : hc_E) (A : Nat → Prop) (d : Nat) (n : Nat) (k0 : Nat) (hD : 1 * k0 + 17 ≤ d)  {σ : hc_St} {r : (Nat × Int32 × hc_St)} (h : fm_X7_condition n k0  σ = some r) (am : Nat → Nat → Nat) : hc_M l hc_V0 yX7_condition (ws_ yX7_condition cX7_condition 2 (some .int)) d E A [.ref (E.2.1 7)] am [2, 3, 4, 6, 12, 22] σ (hc_ot (fun v => some (.int v)) r) r.2.2 := by
  have hd1 : 1 ≤ d := by omega
  have hd8 : 9 ≤ d := by omega
  have hd12 : 12 ≤ d := by omega
  refine hc_enter2 (own := RX7) [(0, .ref (E.2.1 7))] pl_X7 rfl hc_V0_st hc_G0_nd rfl (Nat.le_of_ble_eq_true rfl) (fun X hC hem => ?_)
  have HX := fun z => hc_CX hC z
  unfold fm_X7_condition at h
  refine hr_aload_n hC dX7_condition_0 rfl ?_
  refine hr_bipush (v := 40) hC dX7_condition_1 rfl ?_
  obtain ⟨r1, e2, h⟩ := hx_bind h
  by_cases z5 : r1.1 = 0
  · rw [ht_0 z5] at h
    refine hs_callV hC 7 [_] _ dX7_condition_3 q1263 q1265 qs15 q321 q1266 np_X7 rfl OB_7 pd_X7_bracket (Nat.le_of_ble_eq_true rfl) hd1 (hc_M0 (r := r1) (okX7_bracket l E A (d - 1) n (by omega)  e2 am) z5) (hc_rb rfl) rfl (fun am3 ha4 => ?_)
    refine hr_aload_n hC dX7_condition_6 rfl ?_
    obtain ⟨r6, e7, h⟩ := hx_bind h
    by_cases z10 : r6.1 = 0
    · rw [ht_0 z10] at h
      refine hs_callV hC 7 [] _ dX7_condition_7 q1396 q1398 qs25 q321 q1399 np_X7 rfl OB_7 pd_X7_expression (Nat.le_of_ble_eq_true rfl) hd1 (hc_M0 (r := r6) (okX7_expression l E A (d - 1) n k0 (by omega)  e7 am3) z10) (hc_rb rfl) rfl (fun am8 ha9 => ?_)
      refine hr_istore_n hC dX7_condition_10 (by decide) ?_
      refine hr_aload_n hC dX7_condition_11 rfl ?_
      refine hr_bipush (v := 41) hC dX7_condition_12 rfl ?_
      obtain ⟨r11, e12, h⟩ := hx_bind h
      by_cases z15 : r11.1 = 0
      · rw [ht_0 z15] at h
        refine hs_callV hC 7 [_] _ dX7_condition_14 q1438 q1440 qs33 q321 q1441 np_X7 rfl OB_7 pd_X7_closes (Nat.le_of_ble_eq_true rfl) hd1 (hc_M0 (r := r11) (okX7_closes l E A (d - 1) n (by omega)  e12 am8) z15) (hc_rb rfl) rfl (fun am13 ha14 => ?_)
        refine hr_iload_n hC dX7_condition_17 rfl ?_
        obtain rfl := Option.some.inj h
        exact hr_iret hC dX7_condition_18
      · rw [ht_1 z15] at h
        obtain rfl := Option.some.inj h
        exact hs_callVx (HX z15) hem 7 [_] _ dX7_condition_14 q1438 q1440 qs33 q321 q1441 np_X7 rfl OB_7 pd_X7_closes (Nat.le_of_ble_eq_true rfl) hd1 (hc_M1 (r := r11) (okX7_closes l E A (d - 1) n (by omega)  e12 am8) z15) (hc_rb rfl) rfl
    · rw [ht_1 z10] at h
      obtain rfl := Option.some.inj h
      exact hs_callVx (HX z10) hem 7 [] _ dX7_condition_7 q1396 q1398 qs25 q321 q1399 np_X7 rfl OB_7 pd_X7_expression (Nat.le_of_ble_eq_true rfl) hd1 (hc_M1 (r := r6) (okX7_expression l E A (d - 1) n k0 (by omega)  e7 am3) z10) (hc_rb rfl) rfl
  · rw [ht_1 z5] at h
    obtain rfl := Option.some.inj h
    exact hs_callVx (HX z5) hem 7 [_] _ dX7_condition_3 q1263 q1265 qs15 q321 q1266 np_X7 rfl OB_7 pd_X7_bracket (Nat.le_of_ble_eq_true rfl) hd1 (hc_M1 (r := r1) (okX7_bracket l E A (d - 1) n (by omega)  e2 am) z5) (hc_rb rfl) rfl
/-- HomeCompiler$Reader.empty()I -/
def fm_X7_empty   (σ : hc_St) : Option (Int32 × hc_St) := Option.bind (fm_X5_start  σ) fun r1 => Option.bind (fm_X6_make 11 0 0 r1 σ) fun r5 => some (r5.1, r5.2)
set_option maxRecDepth 20000 in
set_option maxHeartbeats 4000000 in
theorem okX7_empty (l : Launch) (E : hc_E) (A : Nat → Prop) (d : Nat)  (hD : 7 ≤ d)  {σ : hc_St} {r : (Int32 × hc_St)} (h : fm_X7_empty   σ = some r) (am : Nat → Nat → Nat) : hc_M l hc_V0 yX7_empty (ws_ yX7_empty cX7_empty 1 (some .int)) d E A [.ref (E.2.1 7)] am [6] σ (.inl (some (.int r.1))) r.2 := by
  have hd1 : 1 ≤ d := by omega
  refine hc_enter2 (own := RX7) [(0, .ref (E.2.1 7))] pl_X7 rfl hc_V0_st hc_G0_nd rfl (Nat.le_of_ble_eq_true rfl) (fun X hC hem => ?_)
  unfold fm_X7_empty at h
  refine hr_aload_n hC dX7_empty_0 rfl ?_
  refine hr_gO 6 hC F7_1 rfl dX7_empty_1 q566 ?_
  refine hr_bipush (v := 11) hC dX7_empty_4 rfl ?_
  refine hr_iconst (v := 0) hC dX7_empty_6 rfl ?_
  refine hr_iconst (v := 0) hC dX7_empty_7 rfl ?_
  refine hr_aload_n hC dX7_empty_8 rfl ?_
  refine hr_gO 5 hC F7_0 rfl dX7_empty_9 q565 ?_
  obtain ⟨r1, e2, h⟩ := hx_bind h
  refine hs_callV0 hC 5 [] _ dX7_empty_12 q1258 q1259 q1260 q319 q1261 np_X5 rfl OB_5 pd_X5_start (Nat.le_of_ble_eq_true rfl) hd1 (okX5_start l E A (d - 1)  (by omega)  e2 am) rfl ?_
  obtain ⟨r5, e6, h⟩ := hx_bind h
  refine hs_callV hC 6 [_, _, _, _] _ dX7_empty_15 q1230 q1231 q1232 q320 q1233 np_X6 rfl OB_6 pd_X6_make (Nat.le_of_ble_eq_true rfl) hd1 (okX6_make l E A (d - 1)  (by omega)  e6 am) (hc_rb rfl) rfl (fun am7 ha8 => ?_)
  obtain rfl := Option.some.inj h
  exact hr_iret hC dX7_empty_18
/-- HomeCompiler$Reader.returning(I)I -/
def fm_X7_returning (n : Nat) (k0 : Nat) (x1 : Int32) (σ : hc_St) : Option (Nat × Int32 × hc_St) := Option.bind (fm_X6_make 22 0 0 x1 σ) fun r1 => Option.bind (fm_X5_next n r1.2) fun r5 => Option.bind (fm_X7_is 59 r5) fun r9 => Option.bind (α := Nat × hc_St × Int32) (if r9 = 0 then (Option.bind (fm_X7_expression n k0 r5) fun r19 => hv r19 (0) <| Option.bind (fm_X6_hang r1.1 r19.2.1 r19.2.2) fun r24 => some (0, r24, (0 : Int32))) else (some (0, r5, (0 : Int32)))) fun r15 => hu r15 <| Option.bind (fm_X7_take n 59 r15.2.1) fun r29 => ht r29 <| some (0, r1.1, r29.2.2)
set_option maxRecDepth 20000 in
set_option maxHeartbeats 4000000 in
theorem okX7_returning (l : Launch) (E : hc_E) (A : Nat → Prop) (d : Nat) (n : Nat) (k0 : Nat) (hD : 1 * k0 + 17 ≤ d) {x1 : Int32} {σ : hc_St} {r : (Nat × Int32 × hc_St)} (h : fm_X7_returning n k0 x1 σ = some r) (am : Nat → Nat → Nat) : hc_M l hc_V0 yX7_returning (ws_ yX7_returning cX7_returning 3 (some .int)) d E A [.ref (E.2.1 7), .int x1] am [2, 3, 4, 6, 12, 22] σ (hc_ot (fun v => some (.int v)) r) r.2.2 := by
  have hd1 : 1 ≤ d := by omega
  have hd8 : 9 ≤ d := by omega
  have hd12 : 12 ≤ d := by omega
  refine hc_enter2 (own := RX7) [(0, .ref (E.2.1 7)), (1, .int x1)] pl_X7 rfl hc_V0_st hc_G0_nd rfl (Nat.le_of_ble_eq_true rfl) (fun X hC hem => ?_)
  have HX := fun z => hc_CX hC z
  unfold fm_X7_returning at h
  refine hr_aload_n hC dX7_returning_0 rfl ?_
  refine hr_gO 6 hC F7_1 rfl dX7_returning_1 q566 ?_
  refine hr_bipush (v := 22) hC dX7_returning_4 rfl ?_
  refine hr_iconst (v := 0) hC dX7_returning_6 rfl ?_
  refine hr_iconst (v := 0) hC dX7_returning_7 rfl ?_
  refine hr_iload_n hC dX7_returning_8 rfl ?_
  obtain ⟨r1, e2, h⟩ := hx_bind h
  refine hs_callV hC 6 [_, _, _, _] _ dX7_returning_9 q1230 q1231 q1232 q320 q1233 np_X6 rfl OB_6 pd_X6_make (Nat.le_of_ble_eq_true rfl) hd1 (okX6_make l E A (d - 1)  (by omega)  e2 am) (hc_rb rfl) rfl (fun am3 ha4 => ?_)
  refine hr_istore_n hC dX7_returning_12 (by decide) ?_
  refine hr_aload_n hC dX7_returning_13 rfl ?_
  refine hr_gO 5 hC F7_0 rfl dX7_returning_14 q565 ?_
  obtain ⟨r5, e6, h⟩ := hx_bind h
  refine hs_callV hC 5 [] _ dX7_returning_17 q1262 q1076 q1077 q319 q1078 np_X5 rfl OB_5 pd_X5_next (Nat.le_of_ble_eq_true rfl) hd1 (okX5_next l E A (d - 1) n (by omega)  e6 am3) (hc_rb rfl) rfl (fun am7 ha8 => ?_)
  refine hr_aload_n hC dX7_returning_20 rfl ?_
  refine hr_bipush (v := 59) hC dX7_returning_21 rfl ?_
  obtain ⟨r9, e10, h⟩ := hx_bind h
  refine hs_callV0 hC 7 [_] _ dX7_returning_23 q1242 q1244 qs12 q321 q1245 np_X7 rfl OB_7 pd_X7_is (Nat.le_of_ble_eq_true rfl) hd1 (okX7_is l E A (d - 1)  (by omega)  e10 am7) rfl ?_
  obtain ⟨r15, e16, h⟩ := hx_bind h
  have J17 : r15.1 = 0 → ∀ am28, hc_At hc_V0 E 3 X 41 [(0, .ref (E.2.1 7)), (2, .int r1.1)] [] r15.2.1 am28 [] := by
    intro z18 am28
    rw [hu_0 z18] at h
    refine hr_aload_n hC dX7_returning_41 rfl ?_
    refine hr_bipush (v := 59) hC dX7_returning_42 rfl ?_
    obtain ⟨r29, e30, h⟩ := hx_bind h
    by_cases z33 : r29.1 = 0
    · rw [ht_0 z33] at h
      refine hs_callV hC 7 [_] _ dX7_returning_44 q1434 q1436 qs32 q321 q1437 np_X7 rfl OB_7 pd_X7_take (Nat.le_of_ble_eq_true rfl) hd1 (hc_M0 (r := r29) (okX7_take l E A (d - 1) n (by omega)  e30 am28) z33) (hc_rb rfl) rfl (fun am31 ha32 => ?_)
      refine hr_iload_n hC dX7_returning_47 rfl ?_
      obtain rfl := Option.some.inj h
      exact hr_iret hC dX7_returning_48
    · rw [ht_1 z33] at h
      obtain rfl := Option.some.inj h
      exact hs_callVx (HX z33) hem 7 [_] _ dX7_returning_44 q1434 q1436 qs32 q321 q1437 np_X7 rfl OB_7 pd_X7_take (Nat.le_of_ble_eq_true rfl) hd1 (hc_M1 (r := r29) (okX7_take l E A (d - 1) n (by omega)  e30 am28) z33) (hc_rb rfl) rfl
  have HX : r15.1 ≠ 0 → hc_C hc_V0 E cX7_returning 3 RX7 (some .int) d (.inr r15.1) r15.2.1 (l, A, am, [2, 3, 4, 6, 12, 22]) X := by
    intro z18
    rw [hu_1 z18] at h
    obtain rfl := Option.some.inj h
    exact HX z18
  clear h
  have h := e16
  refine hr_if_ne (x := _) hC 41 dX7_returning_26 (by decide) (fun c14 => ?_) (fun c14 => ?_)
  · rw [if_neg c14] at h
    obtain rfl := Option.some.inj h
    exact hr_sub _ rfl (J17 rfl am7)
  · rw [if_pos c14] at h
    refine hr_aload_n hC dX7_returning_29 rfl ?_
    refine hr_gO 6 hC F7_1 rfl dX7_returning_30 q566 ?_
    refine hr_iload_n hC dX7_returning_33 rfl ?_
    refine hr_aload_n hC dX7_returning_34 rfl ?_
    obtain ⟨r19, e20, h⟩ := hx_bind h
    by_cases z23 : r19.1 = 0
    · rw [hv_0 z23] at h
      refine hs_callV hC 7 [] _ dX7_returning_35 q1396 q1398 qs25 q321 q1399 np_X7 rfl OB_7 pd_X7_expression (Nat.le_of_ble_eq_true rfl) hd1 (hc_M0 (r := r19) (okX7_expression l E A (d - 1) n k0 (by omega)  e20 am7) z23) (hc_rb rfl) rfl (fun am21 ha22 => ?_)
      obtain ⟨r24, e25, h⟩ := hx_bind h
      refine hs_callV0 hC 6 [_, _] _ dX7_returning_38 q1412 q1378 q1379 q320 q1380 np_X6 rfl OB_6 pd_X6_hang (Nat.le_of_ble_eq_true rfl) hd1 (okX6_hang l E A (d - 1)  (by omega)  e25 am21) rfl ?_
      obtain rfl := Option.some.inj h
      exact hr_sub _ rfl (J17 rfl am21)
    · rw [hv_1 z23] at h
      obtain rfl := Option.some.inj h
      exact hs_callVx (HX z23) hem 7 [] _ dX7_returning_35 q1396 q1398 qs25 q321 q1399 np_X7 rfl OB_7 pd_X7_expression (Nat.le_of_ble_eq_true rfl) hd1 (hc_M1 (r := r19) (okX7_expression l E A (d - 1) n k0 (by omega)  e20 am7) z23) (hc_rb rfl) rfl
