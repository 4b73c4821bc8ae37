set_option maxRecDepth 20000
/-- HomeCompiler$Reader.isUnary()Z -/
def fm_X7_isUnary   (σ : hc_St) : Option Int32 := Option.bind (fm_X7_is 45 σ) fun r1 => Option.bind (α := Int32) (if r1 = 0 then (Option.bind (fm_X7_is 43 σ) fun r11 => if r11 = 0 then (Option.bind (fm_X7_is 33 σ) fun r17 => if r17 = 0 then (Option.bind (fm_X7_is 126 σ) fun r23 => if r23 = 0 then (Option.bind (fm_X7_is 136 σ) fun r29 => if r29 = 0 then (Option.bind (fm_X7_is 137 σ) fun r35 => if r35 = 0 then (some (0)) else (some (1))) else (some (1))) else (some (1))) else (some (1))) else (some (1))) else (some (1))) fun r7 => hk (hb01 r7) <| some r7
set_option maxRecDepth 20000 in
set_option maxHeartbeats 4000000 in
theorem okX7_isUnary (l : Launch) (E : hc_E) (A : Nat → Prop) (d : Nat)  (hD : 3 ≤ d)  {σ : hc_St} {r : Int32} (h : fm_X7_isUnary   σ = some r) (am : Nat → Nat → Nat) : hc_M l hc_V0 yX7_isUnary (ws_ yX7_isUnary cX7_isUnary 1 (some .boolean)) d E A [.ref (E.2.1 7)] am [] σ (.inl (some (.int r))) σ := by
  have hd1 : 1 ≤ d := by omega
  refine hc_enter2 (own := RX7) [(0, .ref (E.2.1 7))] pl_X7 rfl hc_V0_st hc_G0_nd rfl (Nat.le_of_ble_eq_true rfl) (fun X hC hem => ?_)
  unfold fm_X7_isUnary at h
  refine hr_aload_n hC dX7_isUnary_0 rfl ?_
  refine hr_bipush (v := 45) hC dX7_isUnary_1 rfl ?_
  obtain ⟨r1, e2, h⟩ := hx_bind h
  refine hs_callV0 hC 7 [_] _ dX7_isUnary_3 q1242 q1244 qs12 q321 q1245 np_X7 rfl OB_7 pd_X7_is (Nat.le_of_ble_eq_true rfl) hd1 (okX7_is l E A (d - 1)  (by omega)  e2 am) rfl ?_
  obtain ⟨r7, e8, h⟩ := hx_bind h
  have J9 : hc_At hc_V0 E 1 X 61 [] [.int r7] σ am [] := by
    obtain ⟨c41, h⟩ := hk_ok h
    obtain rfl := Option.some.inj h
    exact hr_zret hC (hb01_n c41) dX7_isUnary_61
  clear h
  have h := e8
  refine hr_if_ne (x := _) hC 56 dX7_isUnary_6 (by decide) (fun c6 => ?_) (fun c6 => ?_)
  · rw [if_neg c6] at h
    refine hr_iconst (v := 1) hC dX7_isUnary_56 rfl ?_
    refine hr_goto hC 61 dX7_isUnary_57 (by decide) ?_
    obtain rfl := Option.some.inj h
    exact hr_sub _ rfl (J9)
  · rw [if_pos c6] at h
    refine hr_aload_n hC dX7_isUnary_9 rfl ?_
    refine hr_bipush (v := 43) hC dX7_isUnary_10 rfl ?_
    obtain ⟨r11, e12, h⟩ := hx_bind h
    refine hs_callV0 hC 7 [_] _ dX7_isUnary_12 q1242 q1244 qs12 q321 q1245 np_X7 rfl OB_7 pd_X7_is (Nat.le_of_ble_eq_true rfl) hd1 (okX7_is l E A (d - 1)  (by omega)  e12 am) rfl ?_
    refine hr_if_ne (x := _) hC 56 dX7_isUnary_15 (by decide) (fun c16 => ?_) (fun c16 => ?_)
    · rw [if_neg c16] at h
      refine hr_iconst (v := 1) hC dX7_isUnary_56 rfl ?_
      refine hr_goto hC 61 dX7_isUnary_57 (by decide) ?_
      obtain rfl := Option.some.inj h
      exact hr_sub _ rfl (J9)
    · rw [if_pos c16] at h
      refine hr_aload_n hC dX7_isUnary_18 rfl ?_
      refine hr_bipush (v := 33) hC dX7_isUnary_19 rfl ?_
      obtain ⟨r17, e18, h⟩ := hx_bind h
      refine hs_callV0 hC 7 [_] _ dX7_isUnary_21 q1242 q1244 qs12 q321 q1245 np_X7 rfl OB_7 pd_X7_is (Nat.le_of_ble_eq_true rfl) hd1 (okX7_is l E A (d - 1)  (by omega)  e18 am) rfl ?_
      refine hr_if_ne (x := _) hC 56 dX7_isUnary_24 (by decide) (fun c22 => ?_) (fun c22 => ?_)
      · rw [if_neg c22] at h
        refine hr_iconst (v := 1) hC dX7_isUnary_56 rfl ?_
        refine hr_goto hC 61 dX7_isUnary_57 (by decide) ?_
        obtain rfl := Option.some.inj h
        exact hr_sub _ rfl (J9)
      · rw [if_pos c22] at h
        refine hr_aload_n hC dX7_isUnary_27 rfl ?_
        refine hr_bipush (v := 126) hC dX7_isUnary_28 rfl ?_
        obtain ⟨r23, e24, h⟩ := hx_bind h
        refine hs_callV0 hC 7 [_] _ dX7_isUnary_30 q1242 q1244 qs12 q321 q1245 np_X7 rfl OB_7 pd_X7_is (Nat.le_of_ble_eq_true rfl) hd1 (okX7_is l E A (d - 1)  (by omega)  e24 am) rfl ?_
        refine hr_if_ne (x := _) hC 56 dX7_isUnary_33 (by decide) (fun c28 => ?_) (fun c28 => ?_)
        · rw [if_neg c28] at h
          refine hr_iconst (v := 1) hC dX7_isUnary_56 rfl ?_
          refine hr_goto hC 61 dX7_isUnary_57 (by decide) ?_
          obtain rfl := Option.some.inj h
          exact hr_sub _ rfl (J9)
        · rw [if_pos c28] at h
          refine hr_aload_n hC dX7_isUnary_36 rfl ?_
          refine hr_sipush (v := 136) hC dX7_isUnary_37 rfl ?_
          obtain ⟨r29, e30, h⟩ := hx_bind h
          refine hs_callV0 hC 7 [_] _ dX7_isUnary_40 q1242 q1244 qs12 q321 q1245 np_X7 rfl OB_7 pd_X7_is (Nat.le_of_ble_eq_true rfl) hd1 (okX7_is l E A (d - 1)  (by omega)  e30 am) rfl ?_
          refine hr_if_ne (x := _) hC 56 dX7_isUnary_43 (by decide) (fun c34 => ?_) (fun c34 => ?_)
          · rw [if_neg c34] at h
            refine hr_iconst (v := 1) hC dX7_isUnary_56 rfl ?_
            refine hr_goto hC 61 dX7_isUnary_57 (by decide) ?_
            obtain rfl := Option.some.inj h
            exact hr_sub _ rfl (J9)
          · rw [if_pos c34] at h
            refine hr_aload_n hC dX7_isUnary_46 rfl ?_
            refine hr_sipush (v := 137) hC dX7_isUnary_47 rfl ?_
            obtain ⟨r35, e36, h⟩ := hx_bind h
            refine hs_callV0 hC 7 [_] _ dX7_isUnary_50 q1242 q1244 qs12 q321 q1245 np_X7 rfl OB_7 pd_X7_is (Nat.le_of_ble_eq_true rfl) hd1 (okX7_is l E A (d - 1)  (by omega)  e36 am) rfl ?_
            refine hr_if_eq (x := _) hC 60 dX7_isUnary_53 (by decide) (fun c40 => ?_) (fun c40 => ?_)
            · rw [if_pos c40] at h
              refine hr_iconst (v := 0) hC dX7_isUnary_60 rfl ?_
              obtain rfl := Option.some.inj h
              exact hr_sub _ rfl (J9)
            · rw [if_neg c40] at h
              refine hr_iconst (v := 1) hC dX7_isUnary_56 rfl ?_
              refine hr_goto hC 61 dX7_isUnary_57 (by decide) ?_
              obtain rfl := Option.some.inj h
              exact hr_sub _ rfl (J9)
/-- HomeCompiler$Nodes.hang(II)V -/
def fm_X6_hang  (x1 : Int32) (x2 : Int32) (σ : hc_St) : Option hc_St := hk (inb x1 (gL σ 6 7)) <| Option.bind (α := hc_St) (if (gC σ 6 7 x1) = (-1) then (hk (inb x1 (gL σ 6 7)) <| hl (pC σ 6 7 x1 x2) fun σ12 => some (σ12)) else (hk (inb x1 (gL σ 6 8)) <| hk (inb ((gC σ 6 8 x1)) (gL σ 6 9)) <| hl (pC σ 6 9 ((gC σ 6 8 x1)) x2) fun σ10 => some (σ10))) fun r4 => hk (inb x1 (gL r4 6 8)) <| hl (pC r4 6 8 x1 x2) fun σ14 => hk (inb x1 (gL σ14 6 0)) <| Option.bind (α := Int32) (if (gC σ14 6 0 x1) = 33 then (some (1)) else (hk (inb x1 (gL σ14 6 0)) <| if (gC σ14 6 0 x1) = 34 then (hk (inb x1 (gL σ14 6 1)) <| if (gC σ14 6 1 x1) = 43 then (some (1)) else (some (0))) else (some (0)))) fun r18 => hk (inb x1 (gL σ14 6 6)) <| hk (inb x2 (gL σ14 6 6)) <| hl (α := Int32) ((if r18 = 0 then 1 else 0)) fun v32 => hk (inb x1 (gL σ14 6 6)) <| hl (pC σ14 6 6 x1 ((jmax ((gC σ14 6 6 x1)) ((((gC σ14 6 6 x2)) + v32))))) fun σ35 => some σ35
set_option maxRecDepth 20000 in
set_option maxHeartbeats 4000000 in
theorem okX6_hang (l : Launch) (E : hc_E) (A : Nat → Prop) (d : Nat)  (hD : 2 ≤ d) {x1 : Int32} {x2 : Int32} {σ : hc_St} {r : hc_St} (h : fm_X6_hang  x1 x2 σ = some r) (am : Nat → Nat → Nat) : hc_M l hc_V0 yX6_hang (ws_ yX6_hang cX6_hang 4 none) d E A [.ref (E.2.1 6), .int x1, .int x2] am [] σ (.inl none) r := by
  have hd1 : 1 ≤ d := by omega
  refine hc_enter2 (own := RX6) [(0, .ref (E.2.1 6)), (1, .int x1), (2, .int x2)] pl_X6 rfl hc_V0_st hc_G0_nd rfl (Nat.le_of_ble_eq_true rfl) (fun X hC hem => ?_)
  unfold fm_X6_hang at h
  refine hr_aload_n hC dX6_hang_0 rfl ?_
  refine hr_gA hC F6_7 rfl dX6_hang_1 q532 ?_
  refine hr_iload_n hC dX6_hang_4 rfl ?_
  obtain ⟨c1, h⟩ := hk_ok h
  refine hs_iald hC A6_7 c1 dX6_hang_5 ?_
  refine hr_iconst (v := (-1)) hC dX6_hang_6 rfl ?_
  obtain ⟨r4, e5, h⟩ := hx_bind h
  have J6 : hc_At hc_V0 E 4 X 32 [(0, .ref (E.2.1 6)), (1, .int x1), (2, .int x2)] [] r4 am [] := by
    refine hr_aload_n hC dX6_hang_32 rfl ?_
    refine hr_gA hC F6_8 rfl dX6_hang_33 q533 ?_
    refine hr_iload_n hC dX6_hang_36 rfl ?_
    refine hr_iload_n hC dX6_hang_37 rfl ?_
    obtain ⟨c13, h⟩ := hk_ok h
    obtain ⟨σ14, hσ14, h⟩ := hl_ok h
    refine hs_iast hC A6_8 c13 dX6_hang_38 ?_
    rw [← hσ14]
    refine hr_aload_n hC dX6_hang_39 rfl ?_
    refine hr_gA hC F6_0 rfl dX6_hang_40 q525 ?_
    refine hr_iload_n hC dX6_hang_43 rfl ?_
    obtain ⟨c15, h⟩ := hk_ok h
    refine hs_iald hC A6_0 c15 dX6_hang_44 ?_
    refine hr_bipush (v := 33) hC dX6_hang_45 rfl ?_
    obtain ⟨r18, e19, h⟩ := hx_bind h
    have J20 : hc_At hc_V0 E 4 X 77 [(0, .ref (E.2.1 6)), (1, .int x1), (2, .int x2)] [.int r18] σ14 am [] := by
      refine hr_istore_n hC dX6_hang_77 (by decide) ?_
      refine hr_aload_n hC dX6_hang_78 rfl ?_
      refine hr_gA hC F6_6 rfl dX6_hang_79 q531 ?_
      refine hr_iload_n hC dX6_hang_82 rfl ?_
      refine hr_aload_n hC dX6_hang_83 rfl ?_
      refine hr_gA hC F6_6 rfl dX6_hang_84 q531 ?_
      refine hr_iload_n hC dX6_hang_87 rfl ?_
      obtain ⟨c28, h⟩ := hk_ok h
      refine hs_iald hC A6_6 c28 dX6_hang_88 ?_
      refine hr_aload_n hC dX6_hang_89 rfl ?_
      refine hr_gA hC F6_6 rfl dX6_hang_90 q531 ?_
      refine hr_iload_n hC dX6_hang_93 rfl ?_
      obtain ⟨c29, h⟩ := hk_ok h
      refine hs_iald hC A6_6 c29 dX6_hang_94 ?_
      refine hr_iload_n hC dX6_hang_95 rfl ?_
      obtain ⟨v32, hv32, h⟩ := hl_ok h
      have J36 : ∀ w37 : Int32, (if r18 = 0 then 1 else 0) = w37 → hc_At hc_V0 E 4 X 104 [] [.int w37, .int (gC σ14 6 6 x2), .int (gC σ14 6 6 x1), .int x1, .ref (am 6 6)] σ14 am [] := by
        intro w37 hw37
        obtain rfl := hv32.trans hw37
        refine hr_iadd hC dX6_hang_104 ?_
        refine hr_max hC dX6_hang_105 q1381 hd1 (Nat.le_of_ble_eq_true rfl) ?_
        obtain ⟨c34, h⟩ := hk_ok h
        obtain ⟨σ35, hσ35, h⟩ := hl_ok h
        refine hs_iast hC A6_6 c34 dX6_hang_108 ?_
        rw [← hσ35]
        obtain rfl := Option.some.inj h
        exact hr_vret hC dX6_hang_109
      refine hr_if_eq (x := _) hC 103 dX6_hang_96 (by decide) (fun c38 => ?_) (fun c38 => ?_)
      · refine hr_iconst (v := 1) hC dX6_hang_103 rfl ?_
        exact hr_sub _ rfl (J36 _ (by first | (rw [if_pos c38]; done) | (simp only [if_pos c38]; done) | rfl))
      · refine hr_iconst (v := 0) hC dX6_hang_99 rfl ?_
        refine hr_goto hC 104 dX6_hang_100 (by decide) ?_
        exact hr_sub _ rfl (J36 _ (by first | (rw [if_neg c38]; done) | (simp only [if_neg c38]; done) | rfl))
    clear h
    have h := e19
    refine hr_icmp_eq (x := _) hC 72 dX6_hang_47 (by decide) (fun c17 => ?_) (fun c17 => ?_)
    · rw [if_pos c17] at h
      refine hr_iconst (v := 1) hC dX6_hang_72 rfl ?_
      refine hr_goto hC 77 dX6_hang_73 (by decide) ?_
      obtain rfl := Option.some.inj h
      exact hr_sub _ rfl (J20)
    · rw [if_neg c17] at h
      refine hr_aload_n hC dX6_hang_50 rfl ?_
      refine hr_gA hC F6_0 rfl dX6_hang_51 q525 ?_
      refine hr_iload_n hC dX6_hang_54 rfl ?_
      obtain ⟨c22, h⟩ := hk_ok h
      refine hs_iald hC A6_0 c22 dX6_hang_55 ?_
      refine hr_bipush (v := 34) hC dX6_hang_56 rfl ?_
      refine hr_icmp_ne (x := _) hC 76 dX6_hang_58 (by decide) (fun c24 => ?_) (fun c24 => ?_)
      · rw [if_neg c24] at h
        refine hr_iconst (v := 0) hC dX6_hang_76 rfl ?_
        obtain rfl := Option.some.inj h
        exact hr_sub _ rfl (J20)
      · rw [if_pos c24] at h
        refine hr_aload_n hC dX6_hang_61 rfl ?_
        refine hr_gA hC F6_1 rfl dX6_hang_62 q526 ?_
        refine hr_iload_n hC dX6_hang_65 rfl ?_
        obtain ⟨c25, h⟩ := hk_ok h
        refine hs_iald hC A6_1 c25 dX6_hang_66 ?_
        refine hr_bipush (v := 43) hC dX6_hang_67 rfl ?_
        refine hr_icmp_ne (x := _) hC 76 dX6_hang_69 (by decide) (fun c27 => ?_) (fun c27 => ?_)
        · rw [if_neg c27] at h
          refine hr_iconst (v := 0) hC dX6_hang_76 rfl ?_
          obtain rfl := Option.some.inj h
          exact hr_sub _ rfl (J20)
        · rw [if_pos c27] at h
          refine hr_iconst (v := 1) hC dX6_hang_72 rfl ?_
          refine hr_goto hC 77 dX6_hang_73 (by decide) ?_
          obtain rfl := Option.some.inj h
          exact hr_sub _ rfl (J20)
  clear h
  have h := e5
  refine hr_icmp_ne (x := _) hC 20 dX6_hang_7 (by decide) (fun c3 => ?_) (fun c3 => ?_)
  · rw [if_neg c3] at h
    refine hr_aload_n hC dX6_hang_20 rfl ?_
    refine hr_gA hC F6_9 rfl dX6_hang_21 q534 ?_
    refine hr_aload_n hC dX6_hang_24 rfl ?_
    refine hr_gA hC F6_8 rfl dX6_hang_25 q533 ?_
    refine hr_iload_n hC dX6_hang_28 rfl ?_
    obtain ⟨c8, h⟩ := hk_ok h
    refine hs_iald hC A6_8 c8 dX6_hang_29 ?_
    refine hr_iload_n hC dX6_hang_30 rfl ?_
    obtain ⟨c9, h⟩ := hk_ok h
    obtain ⟨σ10, hσ10, h⟩ := hl_ok h
    refine hs_iast hC A6_9 c9 dX6_hang_31 ?_
    rw [← hσ10]
    obtain rfl := Option.some.inj h
    exact hr_sub _ rfl (J6)
  · rw [if_pos c3] at h
    refine hr_aload_n hC dX6_hang_10 rfl ?_
    refine hr_gA hC F6_7 rfl dX6_hang_11 q532 ?_
    refine hr_iload_n hC dX6_hang_14 rfl ?_
    refine hr_iload_n hC dX6_hang_15 rfl ?_
    obtain ⟨c11, h⟩ := hk_ok h
    obtain ⟨σ12, hσ12, h⟩ := hl_ok h
    refine hs_iast hC A6_7 c11 dX6_hang_16 ?_
    rw [← hσ12]
    refine hr_goto hC 32 dX6_hang_17 (by decide) ?_
    obtain rfl := Option.some.inj h
    exact hr_sub _ rfl (J6)
/-- HomeCompiler$Nodes.over(III)I -/
def fm_X6_over  (x1 : Int32) (x2 : Int32) (x3 : Int32) (σ : hc_St) : Option (Int32 × hc_St) := hk (inb x3 (gL σ 6 4)) <| Option.bind (fm_X6_make x1 x2 0 ((gC σ 6 4 x3)) σ) fun r2 => Option.bind (fm_X6_hang r2.1 x3 r2.2) fun r6 => some (r2.1, r6)
set_option maxRecDepth 20000 in
set_option maxHeartbeats 4000000 in
theorem okX6_over (l : Launch) (E : hc_E) (A : Nat → Prop) (d : Nat)  (hD : 7 ≤ d) {x1 : Int32} {x2 : Int32} {x3 : Int32} {σ : hc_St} {r : (Int32 × hc_St)} (h : fm_X6_over  x1 x2 x3 σ = some r) (am : Nat → Nat → Nat) : hc_M l hc_V0 yX6_over (ws_ yX6_over cX6_over 5 (some .int)) d E A [.ref (E.2.1 6), .int x1, .int x2, .int x3] am [6] σ (.inl (some (.int r.1))) r.2 := by
  have hd1 : 1 ≤ d := by omega
  refine hc_enter2 (own := RX6) [(0, .ref (E.2.1 6)), (1, .int x1), (2, .int x2), (3, .int x3)] pl_X6 rfl hc_V0_st hc_G0_nd rfl (Nat.le_of_ble_eq_true rfl) (fun X hC hem => ?_)
  unfold fm_X6_over at h
  refine hr_aload_n hC dX6_over_0 rfl ?_
  refine hr_iload_n hC dX6_over_1 rfl ?_
  refine hr_iload_n hC dX6_over_2 rfl ?_
  refine hr_iconst (v := 0) hC dX6_over_3 rfl ?_
  refine hr_aload_n hC dX6_over_4 rfl ?_
  refine hr_gA hC F6_4 rfl dX6_over_5 q529 ?_
  refine hr_iload_n hC dX6_over_8 rfl ?_
  obtain ⟨c1, h⟩ := hk_ok h
  refine hs_iald hC A6_4 c1 dX6_over_9 ?_
  obtain ⟨r2, e3, h⟩ := hx_bind h
  refine hs_callV hC 6 [_, _, _, _] _ dX6_over_10 q1376 q1231 q1232 q320 q1233 np_X6 rfl OB_6 pd_X6_make (Nat.le_of_ble_eq_true rfl) hd1 (okX6_make l E A (d - 1)  (by omega)  e3 am) (hc_rb rfl) rfl (fun am4 ha5 => ?_)
  refine hr_istore hC dX6_over_13 (by decide) ?_
  refine hr_aload_n hC dX6_over_15 rfl ?_
  refine hr_iload hC dX6_over_16 rfl ?_
  refine hr_iload_n hC dX6_over_18 rfl ?_
  obtain ⟨r6, e7, h⟩ := hx_bind h
  refine hs_callV0 hC 6 [_, _] _ dX6_over_19 q1377 q1378 q1379 q320 q1380 np_X6 rfl OB_6 pd_X6_hang (Nat.le_of_ble_eq_true rfl) hd1 (okX6_hang l E A (d - 1)  (by omega)  e7 am4) rfl ?_
  refine hr_iload hC dX6_over_22 rfl ?_
  obtain rfl := Option.some.inj h
  exact hr_iret hC dX6_over_24
/-- HomeCompiler$Nodes.setPlace(II)V -/
def fm_X6_setPlace  (x1 : Int32) (x2 : Int32) (σ : hc_St) : Option hc_St := hk (inb x1 (gL σ 6 4)) <| hl (pC σ 6 4 x1 x2) fun σ2 => some σ2
set_option maxRecDepth 20000 in
set_option maxHeartbeats 4000000 in
theorem okX6_setPlace (l : Launch) (E : hc_E) (A : Nat → Prop) (d : Nat)  (hD : 1 ≤ d) {x1 : Int32} {x2 : Int32} {σ : hc_St} {r : hc_St} (h : fm_X6_setPlace  x1 x2 σ = some r) (am : Nat → Nat → Nat) : hc_M l hc_V0 yX6_setPlace (ws_ yX6_setPlace cX6_setPlace 3 none) d E A [.ref (E.2.1 6), .int x1, .int x2] am [] σ (.inl none) r := by
  have hd1 : 1 ≤ d := by omega
  refine hc_enter2 (own := RX6) [(0, .ref (E.2.1 6)), (1, .int x1), (2, .int x2)] pl_X6 rfl hc_V0_st hc_G0_nd rfl (Nat.le_of_ble_eq_true rfl) (fun X hC hem => ?_)
  unfold fm_X6_setPlace at h
  refine hr_aload_n hC dX6_setPlace_0 rfl ?_
  refine hr_gA hC F6_4 rfl dX6_setPlace_1 q529 ?_
  refine hr_iload_n hC dX6_setPlace_4 rfl ?_
  refine hr_iload_n hC dX6_setPlace_5 rfl ?_
  obtain ⟨c1, h⟩ := hk_ok h
  obtain ⟨σ2, hσ2, h⟩ := hl_ok h
  refine hs_iast hC A6_4 c1 dX6_setPlace_6 ?_
  rw [← hσ2]
  obtain rfl := Option.some.inj h
  exact hr_vret hC dX6_setPlace_7
/-- HomeCompiler$Scanner.number()I -/
def fm_X5_number   (σ : hc_St) : Option Int32 := some ((gI σ 5 8))
set_option maxRecDepth 20000 in
set_option maxHeartbeats 4000000 in
theorem okX5_number (l : Launch) (E : hc_E) (A : Nat → Prop) (d : Nat)  (hD : 1 ≤ d)  {σ : hc_St} {r : Int32} (h : fm_X5_number   σ = some r) (am : Nat → Nat → Nat) : hc_M l hc_V0 yX5_number (ws_ yX5_number cX5_number 1 (some .int)) d E A [.ref (E.2.1 5)] am [] σ (.inl (some (.int r))) σ := by
  have hd1 : 1 ≤ d := by omega
  refine hc_enter2 (own := RX5) [(0, .ref (E.2.1 5))] pl_X5 rfl hc_V0_st hc_G0_nd rfl (Nat.le_of_ble_eq_true rfl) (fun X hC hem => ?_)
  unfold fm_X5_number at h
  refine hr_aload_n hC dX5_number_0 rfl ?_
  refine hr_gI hC F5_8 dX5_number_1 q493 ?_
  obtain rfl := Option.some.inj h
  exact hr_iret hC dX5_number_4
/-- HomeCompiler$Reader.isSet()Z -/
def fm_X7_isSet   (σ : hc_St) : Option Int32 := Option.bind (fm_X7_is 61 σ) fun r1 => Option.bind (α := Int32) (if r1 = 0 then (Option.bind (fm_X5_token  σ) fun r11 => if r11 < 138 then (some (0)) else (Option.bind (fm_X5_token  σ) fun r17 => if 147 < r17 then (some (0)) else (some (1)))) else (some (1))) fun r7 => hk (hb01 r7) <| some r7
set_option maxRecDepth 20000 in
set_option maxHeartbeats 4000000 in
theorem okX7_isSet (l : Launch) (E : hc_E) (A : Nat → Prop) (d : Nat)  (hD : 3 ≤ d)  {σ : hc_St} {r : Int32} (h : fm_X7_isSet   σ = some r) (am : Nat → Nat → Nat) : hc_M l hc_V0 yX7_isSet (ws_ yX7_isSet cX7_isSet 1 (some .boolean)) d E A [.ref (E.2.1 7)] am [] σ (.inl (some (.int r))) σ := by
  have hd1 : 1 ≤ d := by omega
  refine hc_enter2 (own := RX7) [(0, .ref (E.2.1 7))] pl_X7 rfl hc_V0_st hc_G0_nd rfl (Nat.le_of_ble_eq_true rfl) (fun X hC hem => ?_)
  unfold fm_X7_isSet at h
  refine hr_aload_n hC dX7_isSet_0 rfl ?_
  refine hr_bipush (v := 61) hC dX7_isSet_1 rfl ?_
  obtain ⟨r1, e2, h⟩ := hx_bind h
  refine hs_callV0 hC 7 [_] _ dX7_isSet_3 q1242 q1244 qs12 q321 q1245 np_X7 rfl OB_7 pd_X7_is (Nat.le_of_ble_eq_true rfl) hd1 (okX7_is l E A (d - 1)  (by omega)  e2 am) rfl ?_
  obtain ⟨r7, e8, h⟩ := hx_bind h
  have J9 : hc_At hc_V0 E 1 X 40 [] [.int r7] σ am [] := by
    obtain ⟨c23, h⟩ := hk_ok h
    obtain rfl := Option.some.inj h
    exact hr_zret hC (hb01_n c23) dX7_isSet_40
  clear h
  have h := e8
  refine hr_if_ne (x := _) hC 35 dX7_isSet_6 (by decide) (fun c6 => ?_) (fun c6 => ?_)
  · rw [if_neg c6] at h
    refine hr_iconst (v := 1) hC dX7_isSet_35 rfl ?_
    refine hr_goto hC 40 dX7_isSet_36 (by decide) ?_
    obtain rfl := Option.some.inj h
    exact hr_sub _ rfl (J9)
  · rw [if_pos c6] at h
    refine hr_aload_n hC dX7_isSet_9 rfl ?_
    refine hr_gO 5 hC F7_0 rfl dX7_isSet_10 q565 ?_
    obtain ⟨r11, e12, h⟩ := hx_bind h
    refine hs_callV0 hC 5 [] _ dX7_isSet_13 q1246 q1247 q1248 q319 q1249 np_X5 rfl OB_5 pd_X5_token (Nat.le_of_ble_eq_true rfl) hd1 (okX5_token l E A (d - 1)  (by omega)  e12 am) rfl ?_
    refine hr_sipush (v := 138) hC dX7_isSet_16 rfl ?_
    refine hr_icmp_lt (x := _) hC 39 dX7_isSet_19 (by decide) (fun c16 => ?_) (fun c16 => ?_)
    · rw [if_pos c16] at h
      refine hr_iconst (v := 0) hC dX7_isSet_39 rfl ?_
      obtain rfl := Option.some.inj h
      exact hr_sub _ rfl (J9)
    · rw [if_neg c16] at h
      refine hr_aload_n hC dX7_isSet_22 rfl ?_
      refine hr_gO 5 hC F7_0 rfl dX7_isSet_23 q565 ?_
      obtain ⟨r17, e18, h⟩ := hx_bind h
      refine hs_callV0 hC 5 [] _ dX7_isSet_26 q1246 q1247 q1248 q319 q1249 np_X5 rfl OB_5 pd_X5_token (Nat.le_of_ble_eq_true rfl) hd1 (okX5_token l E A (d - 1)  (by omega)  e18 am) rfl ?_
      refine hr_sipush (v := 147) hC dX7_isSet_29 rfl ?_
      refine hr_icmp_gt (x := _) hC 39 dX7_isSet_32 (by decide) (fun c22 => ?_) (fun c22 => ?_)
      · rw [if_pos c22] at h
        refine hr_iconst (v := 0) hC dX7_isSet_39 rfl ?_
        obtain rfl := Option.some.inj h
        exact hr_sub _ rfl (J9)
      · rw [if_neg c22] at h
        refine hr_iconst (v := 1) hC dX7_isSet_35 rfl ?_
        refine hr_goto hC 40 dX7_isSet_36 (by decide) ?_
        obtain rfl := Option.some.inj h
        exact hr_sub _ rfl (J9)
/-- HomeCompiler$Nodes.depth(I)I -/
def fm_X6_depth  (x1 : Int32) (σ : hc_St) : Option Int32 := hk (inb x1 (gL σ 6 6)) <| some ((gC σ 6 6 x1))
set_option maxRecDepth 20000 in
set_option maxHeartbeats 4000000 in
theorem okX6_depth (l : Launch) (E : hc_E) (A : Nat → Prop) (d : Nat)  (hD : 1 ≤ d) {x1 : Int32} {σ : hc_St} {r : Int32} (h : fm_X6_depth  x1 σ = some r) (am : Nat → Nat → Nat) : hc_M l hc_V0 yX6_depth (ws_ yX6_depth cX6_depth 2 (some .int)) d E A [.ref (E.2.1 6), .int x1] am [] σ (.inl (some (.int r))) σ := by
  have hd1 : 1 ≤ d := by omega
  refine hc_enter2 (own := RX6) [(0, .ref (E.2.1 6)), (1, .int x1)] pl_X6 rfl hc_V0_st hc_G0_nd rfl (Nat.le_of_ble_eq_true rfl) (fun X hC hem => ?_)
  unfold fm_X6_depth at h
  refine hr_aload_n hC dX6_depth_0 rfl ?_
  refine hr_gA hC F6_6 rfl dX6_depth_1 q531 ?_
  refine hr_iload_n hC dX6_depth_4 rfl ?_
  obtain ⟨c1, h⟩ := hk_ok h
  refine hs_iald hC A6_6 c1 dX6_depth_5 ?_
  obtain rfl := Option.some.inj h
  exact hr_iret hC dX6_depth_6
/-- HomeCompiler$Reader.shallow(I)V -/
def fm_X7_shallow  (x1 : Int32) (σ : hc_St) : Option (Nat × Int32 × hc_St) := Option.bind (fm_X6_depth x1 σ) fun r1 => hl (α := Int32) ((if 60 ≤ (((gI σ 7 2)) + r1) then 0 else 1)) fun v7 => Option.bind (fm_X7_need v7 σ) fun r8 => ht r8 <| some (0, 0, r8.2.2)
set_option maxRecDepth 20000 in
set_option maxHeartbeats 4000000 in
theorem okX7_shallow (l : Launch) (E : hc_E) (A : Nat → Prop) (d : Nat)  (hD : 14 ≤ d) {x1 : Int32} {σ : hc_St} {r : (Nat × Int32 × hc_St)} (h : fm_X7_shallow  x1 σ = some r) (am : Nat → Nat → Nat) : hc_M l hc_V0 yX7_shallow (ws_ yX7_shallow cX7_shallow 2 none) d E A [.ref (E.2.1 7), .int x1] am [] σ (hc_ot (fun v => none) r) r.2.2 := by
  have hd1 : 1 ≤ d := by omega
  have hd8 : 9 ≤ d := by omega
  have hd12 : 12 ≤ d := by omega
  refine hc_enter2 (own := RX7) [(0, .ref (E.2.1 7)), (1, .int x1)] pl_X7 rfl hc_V0_st hc_G0_nd rfl (Nat.le_of_ble_eq_true rfl) (fun X hC hem => ?_)
  have HX := fun z => hc_CX hC z
  unfold fm_X7_shallow at h
  refine hr_aload_n hC dX7_shallow_0 rfl ?_
  refine hr_gI hC F7_2 dX7_shallow_1 q567 ?_
  refine hr_aload_n hC dX7_shallow_4 rfl ?_
  refine hr_gO 6 hC F7_1 rfl dX7_shallow_5 q566 ?_
  refine hr_iload_n hC dX7_shallow_8 rfl ?_
  obtain ⟨r1, e2, h⟩ := hx_bind h
  refine hs_callV0 hC 6 [_] _ dX7_shallow_9 q1408 q1409 q1410 q320 q1411 np_X6 rfl OB_6 pd_X6_depth (Nat.le_of_ble_eq_true rfl) hd1 (okX6_depth l E A (d - 1)  (by omega)  e2 am) rfl ?_
  refine hr_iadd hC dX7_shallow_12 ?_
  refine hr_bipush (v := 60) hC dX7_shallow_13 rfl ?_
  obtain ⟨v7, hv7, h⟩ := hl_ok h
  have J13 : ∀ w14 : Int32, (if 60 ≤ (((gI σ 7 2)) + r1) then 0 else 1) = w14 → hc_At hc_V0 E 2 X 23 [] [.int w14] σ am [] := by
    intro w14 hw14
    obtain rfl := hv7.trans hw14
    obtain ⟨r8, e9, h⟩ := hx_bind h
    by_cases z12 : r8.1 = 0
    · rw [ht_0 z12] at h
      refine hs_callS0 hC [_] _ dX7_shallow_23 q1267 q1268 q321 q1269 np_X7 rfl pd_X7_need (Nat.le_of_ble_eq_true rfl) hd1 (hc_M0 (r := r8) (okX7_need l E A (d - 1)  (by omega)  e9 am) z12) rfl ?_
      obtain rfl := Option.some.inj h
      exact hr_vret hC dX7_shallow_26
    · rw [ht_1 z12] at h
      obtain rfl := Option.some.inj h
      exact hs_callSx (HX z12) hem [_] _ dX7_shallow_23 q1267 q1268 q321 q1269 np_X7 rfl pd_X7_need (Nat.le_of_ble_eq_true rfl) hd1 (hc_M1 (r := r8) (okX7_need l E A (d - 1)  (by omega)  e9 am) z12) (hc_rb rfl) rfl
  refine hr_icmp_ge (x := _) hC 22 dX7_shallow_15 (by decide) (fun c15 => ?_) (fun c15 => ?_)
  · refine hr_iconst (v := 0) hC dX7_shallow_22 rfl ?_
    exact hr_sub _ rfl (J13 _ (by first | (rw [if_pos c15]; done) | (simp only [if_pos c15]; done) | rfl))
  · refine hr_iconst (v := 1) hC dX7_shallow_18 rfl ?_
    refine hr_goto hC 23 dX7_shallow_19 (by decide) ?_
    exact hr_sub _ rfl (J13 _ (by first | (rw [if_neg c15]; done) | (simp only [if_neg c15]; done) | rfl))
/-- HomeCompiler$Reader.rank(I)I -/
def fm_X7_rank  (x1 : Int32) (σ : hc_St) : Option Int32 := if x1 = 37 then (some 10) else if x1 = 38 then (some 5) else if x1 = 42 then (some 10) else if x1 = 43 then (some 9) else if x1 = 45 then (some 9) else if x1 = 47 then (some 10) else if x1 = 60 then (some 7) else if x1 = 62 then (some 7) else if x1 = 94 then (some 4) else if x1 = 124 then (some 3) else if x1 = 128 then (some 1) else if x1 = 129 then (some 2) else if x1 = 130 then (some 6) else if x1 = 131 then (some 6) else if x1 = 132 then (some 7) else if x1 = 133 then (some 7) else if x1 = 134 then (some 8) else if x1 = 135 then (some 8) else (some 0)
set_option maxRecDepth 20000 in
set_option maxHeartbeats 4000000 in
theorem okX7_rank (l : Launch) (E : hc_E) (A : Nat → Prop) (d : Nat)  (hD : 1 ≤ d) {x1 : Int32} {σ : hc_St} {r : Int32} (h : fm_X7_rank  x1 σ = some r) (am : Nat → Nat → Nat) : hc_M l hc_V0 yX7_rank (ws_ yX7_rank cX7_rank 2 (some .int)) d E A [.ref (E.2.1 7), .int x1] am [] σ (.inl (some (.int r))) σ := by
  have hd1 : 1 ≤ d := by omega
  refine hc_enter2 (own := RX7) [(0, .ref (E.2.1 7)), (1, .int x1)] pl_X7 rfl hc_V0_st hc_G0_nd rfl (Nat.le_of_ble_eq_true rfl) (fun X hC hem => ?_)
  unfold fm_X7_rank at h
  refine hr_iload_n hC dX7_rank_0 rfl ?_
  by_cases c1 : x1 = 37
  · rw [if_pos c1] at h
    refine hr_lookup hC 178 dX7_rank_1 (by decide) (by rw [c1] <;> rfl) (by decide) ?_
    refine hr_bipush (v := 10) hC dX7_rank_178 rfl ?_
    obtain rfl := Option.some.inj h
    exact hr_iret hC dX7_rank_180
  rw [if_neg c1] at h
  by_cases c2 : x1 = 38
  · rw [if_pos c2] at h
    refine hr_lookup hC 164 dX7_rank_1 (by decide) (by rw [c2] <;> rfl) (by decide) ?_
    refine hr_iconst (v := 5) hC dX7_rank_164 rfl ?_
    obtain rfl := Option.some.inj h
    exact hr_iret hC dX7_rank_165
  rw [if_neg c2] at h
  by_cases c3 : x1 = 42
  · rw [if_pos c3] at h
    refine hr_lookup hC 178 dX7_rank_1 (by decide) (by rw [c3] <;> rfl) (by decide) ?_
    refine hr_bipush (v := 10) hC dX7_rank_178 rfl ?_
    obtain rfl := Option.some.inj h
    exact hr_iret hC dX7_rank_180
  rw [if_neg c3] at h
  by_cases c4 : x1 = 43
  · rw [if_pos c4] at h
    refine hr_lookup hC 175 dX7_rank_1 (by decide) (by rw [c4] <;> rfl) (by decide) ?_
    refine hr_bipush (v := 9) hC dX7_rank_175 rfl ?_
    obtain rfl := Option.some.inj h
    exact hr_iret hC dX7_rank_177
  rw [if_neg c4] at h
  by_cases c5 : x1 = 45
  · rw [if_pos c5] at h
    refine hr_lookup hC 175 dX7_rank_1 (by decide) (by rw [c5] <;> rfl) (by decide) ?_
    refine hr_bipush (v := 9) hC dX7_rank_175 rfl ?_
    obtain rfl := Option.some.inj h
    exact hr_iret hC dX7_rank_177
  rw [if_neg c5] at h
  by_cases c6 : x1 = 47
  · rw [if_pos c6] at h
    refine hr_lookup hC 178 dX7_rank_1 (by decide) (by rw [c6] <;> rfl) (by decide) ?_
    refine hr_bipush (v := 10) hC dX7_rank_178 rfl ?_
    obtain rfl := Option.some.inj h
    exact hr_iret hC dX7_rank_180
  rw [if_neg c6] at h
  by_cases c7 : x1 = 60
  · rw [if_pos c7] at h
    refine hr_lookup hC 169 dX7_rank_1 (by decide) (by rw [c7] <;> rfl) (by decide) ?_
    refine hr_bipush (v := 7) hC dX7_rank_169 rfl ?_
    obtain rfl := Option.some.inj h
    exact hr_iret hC dX7_rank_171
  rw [if_neg c7] at h
  by_cases c8 : x1 = 62
  · rw [if_pos c8] at h
    refine hr_lookup hC 169 dX7_rank_1 (by decide) (by rw [c8] <;> rfl) (by decide) ?_
    refine hr_bipush (v := 7) hC dX7_rank_169 rfl ?_
    obtain rfl := Option.some.inj h
    exact hr_iret hC dX7_rank_171
  rw [if_neg c8] at h
  by_cases c9 : x1 = 94
  · rw [if_pos c9] at h
    refine hr_lookup hC 162 dX7_rank_1 (by decide) (by rw [c9] <;> rfl) (by decide) ?_
    refine hr_iconst (v := 4) hC dX7_rank_162 rfl ?_
    obtain rfl := Option.some.inj h
    exact hr_iret hC dX7_rank_163
  rw [if_neg c9] at h
  by_cases c10 : x1 = 124
  · rw [if_pos c10] at h
    refine hr_lookup hC 160 dX7_rank_1 (by decide) (by rw [c10] <;> rfl) (by decide) ?_
    refine hr_iconst (v := 3) hC dX7_rank_160 rfl ?_
    obtain rfl := Option.some.inj h
    exact hr_iret hC dX7_rank_161
  rw [if_neg c10] at h
  by_cases c11 : x1 = 128
  · rw [if_pos c11] at h
    refine hr_lookup hC 156 dX7_rank_1 (by decide) (by rw [c11] <;> rfl) (by decide) ?_
    refine hr_iconst (v := 1) hC dX7_rank_156 rfl ?_
    obtain rfl := Option.some.inj h
    exact hr_iret hC dX7_rank_157
  rw [if_neg c11] at h
  by_cases c12 : x1 = 129
  · rw [if_pos c12] at h
    refine hr_lookup hC 158 dX7_rank_1 (by decide) (by rw [c12] <;> rfl) (by decide) ?_
    refine hr_iconst (v := 2) hC dX7_rank_158 rfl ?_
    obtain rfl := Option.some.inj h
    exact hr_iret hC dX7_rank_159
  rw [if_neg c12] at h
  by_cases c13 : x1 = 130
  · rw [if_pos c13] at h
    refine hr_lookup hC 166 dX7_rank_1 (by decide) (by rw [c13] <;> rfl) (by decide) ?_
    refine hr_bipush (v := 6) hC dX7_rank_166 rfl ?_
    obtain rfl := Option.some.inj h
    exact hr_iret hC dX7_rank_168
  rw [if_neg c13] at h
  by_cases c14 : x1 = 131
  · rw [if_pos c14] at h
    refine hr_lookup hC 166 dX7_rank_1 (by decide) (by rw [c14] <;> rfl) (by decide) ?_
    refine hr_bipush (v := 6) hC dX7_rank_166 rfl ?_
    obtain rfl := Option.some.inj h
    exact hr_iret hC dX7_rank_168
  rw [if_neg c14] at h
  by_cases c15 : x1 = 132
  · rw [if_pos c15] at h
    refine hr_lookup hC 169 dX7_rank_1 (by decide) (by rw [c15] <;> rfl) (by decide) ?_
    refine hr_bipush (v := 7) hC dX7_rank_169 rfl ?_
    obtain rfl := Option.some.inj h
    exact hr_iret hC dX7_rank_171
  rw [if_neg c15] at h
  by_cases c16 : x1 = 133
  · rw [if_pos c16] at h
    refine hr_lookup hC 169 dX7_rank_1 (by decide) (by rw [c16] <;> rfl) (by decide) ?_
    refine hr_bipush (v := 7) hC dX7_rank_169 rfl ?_
    obtain rfl := Option.some.inj h
    exact hr_iret hC dX7_rank_171
  rw [if_neg c16] at h
  by_cases c17 : x1 = 134
  · rw [if_pos c17] at h
    refine hr_lookup hC 172 dX7_rank_1 (by decide) (by rw [c17] <;> rfl) (by decide) ?_
    refine hr_bipush (v := 8) hC dX7_rank_172 rfl ?_
    obtain rfl := Option.some.inj h
    exact hr_iret hC dX7_rank_174
  rw [if_neg c17] at h
  by_cases c18 : x1 = 135
  · rw [if_pos c18] at h
    refine hr_lookup hC 172 dX7_rank_1 (by decide) (by rw [c18] <;> rfl) (by decide) ?_
    refine hr_bipush (v := 8) hC dX7_rank_172 rfl ?_
    obtain rfl := Option.some.inj h
    exact hr_iret hC dX7_rank_174
  rw [if_neg c18] at h
  refine hr_lookup hC 181 dX7_rank_1 (by decide) (hc_lkD (hc_l1 (hc_ne c1 rfl) (hc_l1 (hc_ne c2 rfl) (hc_l1 (hc_ne c3 rfl) (hc_l1 (hc_ne c4 rfl) (hc_l1 (hc_ne c5 rfl) (hc_l1 (hc_ne c6 rfl) (hc_l1 (hc_ne c7 rfl) (hc_l1 (hc_ne c8 rfl) (hc_l1 (hc_ne c9 rfl) (hc_l1 (hc_ne c10 rfl) (hc_l1 (hc_ne c11 rfl) (hc_l1 (hc_ne c12 rfl) (hc_l1 (hc_ne c13 rfl) (hc_l1 (hc_ne c14 rfl) (hc_l1 (hc_ne c15 rfl) (hc_l1 (hc_ne c16 rfl) (hc_l1 (hc_ne c17 rfl) (hc_l1 (hc_ne c18 rfl) hc_l0))))))))))))))))))) (by decide) ?_
  refine hr_iconst (v := 0) hC dX7_rank_181 rfl ?_
  obtain rfl := Option.some.inj h
  exact hr_iret hC dX7_rank_182
/-- HomeCompiler$Nodes.chain(IIII)I -/
def fm_X6_chain  (x1 : Int32) (x2 : Int32) (x3 : Int32) (x4 : Int32) (σ : hc_St) : Option (Int32 × hc_St) := hk (inb x2 (gL σ 6 0)) <| Option.bind (α := Int32) (if (gC σ 6 0 x2) = 32 then (hk (inb x2 (gL σ 6 2)) <| if (gC σ 6 2 x2) = x1 then (some (1)) else (some (0))) else (some (0))) fun r4 => Option.bind (α := hc_St × Int32) (if r4 = 0 then (Option.bind (fm_X6_over 32 0 x2 σ) fun r17 => hk (inb r17.1 (gL r17.2 6 2)) <| hl (pC r17.2 6 2 r17.1 x1) fun σ22 => some (σ22, r17.1)) else (some (σ, x2))) fun r13 => Option.bind (fm_X6_over 33 x3 x4 r13.1) fun r24 => Option.bind (fm_X6_hang r13.2 r24.1 r24.2) fun r28 => some (r13.2, r28)
set_option maxRecDepth 20000 in
set_option maxHeartbeats 4000000 in
theorem okX6_chain (l : Launch) (E : hc_E) (A : Nat → Prop) (d : Nat)  (hD : 8 ≤ d) {x1 : Int32} {x2 : Int32} {x3 : Int32} {x4 : Int32} {σ : hc_St} {r : (Int32 × hc_St)} (h : fm_X6_chain  x1 x2 x3 x4 σ = some r) (am : Nat → Nat → Nat) : hc_M l hc_V0 yX6_chain (ws_ yX6_chain cX6_chain 8 (some .int)) d E A [.ref (E.2.1 6), .int x1, .int x2, .int x3, .int x4] am [6] σ (.inl (some (.int r.1))) r.2 := by
  have hd1 : 1 ≤ d := by omega
  refine hc_enter2 (own := RX6) [(0, .ref (E.2.1 6)), (1, .int x1), (2, .int x2), (3, .int x3), (4, .int x4)] pl_X6 rfl hc_V0_st hc_G0_nd rfl (Nat.le_of_ble_eq_true rfl) (fun X hC hem => ?_)
  unfold fm_X6_chain at h
  refine hr_aload_n hC dX6_chain_0 rfl ?_
  refine hr_gA hC F6_0 rfl dX6_chain_1 q525 ?_
  refine hr_iload_n hC dX6_chain_4 rfl ?_
  obtain ⟨c1, h⟩ := hk_ok h
  refine hs_iald hC A6_0 c1 dX6_chain_5 ?_
  refine hr_bipush (v := 32) hC dX6_chain_6 rfl ?_
  obtain ⟨r4, e5, h⟩ := hx_bind h
  have J6 : hc_At hc_V0 E 8 X 26 [(0, .ref (E.2.1 6)), (1, .int x1), (2, .int x2), (3, .int x3), (4, .int x4)] [.int r4] σ am [] := by
    refine hr_istore hC dX6_chain_26 (by decide) ?_
    refine hr_iload_n hC dX6_chain_28 rfl ?_
    refine hr_istore hC dX6_chain_29 (by decide) ?_
    refine hr_iload hC dX6_chain_31 rfl ?_
    obtain ⟨r13, e14, h⟩ := hx_bind h
    have J15 : ∀ am23, hc_At hc_V0 E 8 X 54 [(0, .ref (E.2.1 6)), (3, .int x3), (4, .int x4), (6, .int r13.2)] [] r13.1 am23 [] := by
      intro am23
      refine hr_aload_n hC dX6_chain_54 rfl ?_
      refine hr_bipush (v := 33) hC dX6_chain_55 rfl ?_
      refine hr_iload_n hC dX6_chain_57 rfl ?_
      refine hr_iload hC dX6_chain_58 rfl ?_
      obtain ⟨r24, e25, h⟩ := hx_bind h
      refine hs_callV hC 6 [_, _, _] _ dX6_chain_60 q1433 q1373 q1374 q320 q1375 np_X6 rfl OB_6 pd_X6_over (Nat.le_of_ble_eq_true rfl) hd1 (okX6_over l E A (d - 1)  (by omega)  e25 am23) (hc_rb rfl) rfl (fun am26 ha27 => ?_)
      refine hr_istore hC dX6_chain_63 (by decide) ?_
      refine hr_aload_n hC dX6_chain_65 rfl ?_
      refine hr_iload hC dX6_chain_66 rfl ?_
      refine hr_iload hC dX6_chain_68 rfl ?_
      obtain ⟨r28, e29, h⟩ := hx_bind h
      refine hs_callV0 hC 6 [_, _] _ dX6_chain_70 q1377 q1378 q1379 q320 q1380 np_X6 rfl OB_6 pd_X6_hang (Nat.le_of_ble_eq_true rfl) hd1 (okX6_hang l E A (d - 1)  (by omega)  e29 am26) rfl ?_
      refine hr_iload hC dX6_chain_73 rfl ?_
      obtain rfl := Option.some.inj h
      exact hr_iret hC dX6_chain_75
    clear h
    have h := e14
    refine hr_if_ne (x := _) hC 54 dX6_chain_33 (by decide) (fun c12 => ?_) (fun c12 => ?_)
    · rw [if_neg c12] at h
      obtain rfl := Option.some.inj h
      exact hr_sub _ rfl (J15 am)
    · rw [if_pos c12] at h
      refine hr_aload_n hC dX6_chain_36 rfl ?_
      refine hr_bipush (v := 32) hC dX6_chain_37 rfl ?_
      refine hr_iconst (v := 0) hC dX6_chain_39 rfl ?_
      refine hr_iload_n hC dX6_chain_40 rfl ?_
      obtain ⟨r17, e18, h⟩ := hx_bind h
      refine hs_callV hC 6 [_, _, _] _ dX6_chain_41 q1433 q1373 q1374 q320 q1375 np_X6 rfl OB_6 pd_X6_over (Nat.le_of_ble_eq_true rfl) hd1 (okX6_over l E A (d - 1)  (by omega)  e18 am) (hc_rb rfl) rfl (fun am19 ha20 => ?_)
      refine hr_istore hC dX6_chain_44 (by decide) ?_
      refine hr_aload_n hC dX6_chain_46 rfl ?_
      refine hr_gA hC F6_2 rfl dX6_chain_47 q527 ?_
      refine hr_iload hC dX6_chain_50 rfl ?_
      refine hr_iload_n hC dX6_chain_52 rfl ?_
      obtain ⟨c21, h⟩ := hk_ok h
      obtain ⟨σ22, hσ22, h⟩ := hl_ok h
      refine hs_iast hC A6_2 c21 dX6_chain_53 ?_
      rw [← hσ22]
      obtain rfl := Option.some.inj h
      exact hr_sub _ rfl (J15 am19)
  clear h
  have h := e5
  refine hr_icmp_ne (x := _) hC 25 dX6_chain_8 (by decide) (fun c3 => ?_) (fun c3 => ?_)
  · rw [if_neg c3] at h
    refine hr_iconst (v := 0) hC dX6_chain_25 rfl ?_
    obtain rfl := Option.some.inj h
    exact hr_sub _ rfl (J6)
  · rw [if_pos c3] at h
    refine hr_aload_n hC dX6_chain_11 rfl ?_
    refine hr_gA hC F6_2 rfl dX6_chain_12 q527 ?_
    refine hr_iload_n hC dX6_chain_15 rfl ?_
    obtain ⟨c8, h⟩ := hk_ok h
    refine hs_iald hC A6_2 c8 dX6_chain_16 ?_
    refine hr_iload_n hC dX6_chain_17 rfl ?_
    refine hr_icmp_ne (x := _) hC 25 dX6_chain_18 (by decide) (fun c10 => ?_) (fun c10 => ?_)
    · rw [if_neg c10] at h
      refine hr_iconst (v := 0) hC dX6_chain_25 rfl ?_
      obtain rfl := Option.some.inj h
      exact hr_sub _ rfl (J6)
    · rw [if_pos c10] at h
      refine hr_iconst (v := 1) hC dX6_chain_21 rfl ?_
      refine hr_goto hC 26 dX6_chain_22 (by decide) ?_
      obtain rfl := Option.some.inj h
      exact hr_sub _ rfl (J6)
def lp_X7_settle_0 (n : Nat) : Nat → Int32 → Int32 → hc_St → Option (hc_St)
  | 0, _, _, _ => none
  | m + 1, y1, y2, σ => if (gI σ 7 5) ≤ y1 then (some (σ)) else (hk (inb ((((gI σ 7 5)) - 1)) (gL σ 7 4)) <| Option.bind (fm_X7_rank ((gC σ 7 4 ((((gI σ 7 5)) - 1)))) σ) fun r4 => if r4 < y2 then (some (σ)) else (hl (pI σ 7 5 ((((gI σ 7 5)) - 1))) fun σ10 => hl (pI σ10 7 2 ((((gI σ10 7 2)) - 1))) fun σ11 => hk (inb ((gI σ11 7 5)) (gL σ11 7 4)) <| Option.bind (fm_X7_rank ((gC σ11 7 4 ((gI σ11 7 5)))) σ11) fun r13 => hk (inb ((gI σ11 7 5)) (gL σ11 7 3)) <| hk (inb ((((gI σ11 7 5)) + 1)) (gL σ11 7 3)) <| Option.bind (fm_X6_chain r13 ((gC σ11 7 3 ((gI σ11 7 5)))) ((gC σ11 7 4 ((gI σ11 7 5)))) ((gC σ11 7 3 ((((gI σ11 7 5)) + 1)))) σ11) fun r19 => hk (inb ((gI σ11 7 5)) (gL r19.2 7 3)) <| hl (pC r19.2 7 3 ((gI σ11 7 5)) r19.1) fun σ24 => lp_X7_settle_0 n m y1 y2 σ24))
/-- HomeCompiler$Reader.settle(II)V -/
def fm_X7_settle (n : Nat) (x1 : Int32) (x2 : Int32) (σ : hc_St) : Option hc_St := Option.bind (lp_X7_settle_0 n n x1 x2 σ) fun r25 => some r25
set_option maxRecDepth 20000 in
set_option maxHeartbeats 4000000 in
theorem ll_X7_settle_0 {l : Launch} {E : hc_E} {A : Nat → Prop} {am : Nat → Nat → Nat} {d : Nat} {X : hc_X} (n : Nat) (hD : 9 ≤ d) (hem : X.2.2.2.2.2.2.2.2.2.1.exceptionTable.isEmpty = true) {oc : hc_Oc} {σe : hc_St} (hC : hc_C hc_V0 E cX7_settle 4 RX7 none d oc σe (l, A, am, [6]) X) : ∀ (m : Nat) (σ : hc_St) (y1 : Int32) (y2 : Int32) (rl : hc_St), lp_X7_settle_0 n m y1 y2 σ = some rl → (∀ am1, hc_At hc_V0 E 4 X 102 [] [] rl am1 []) → ∀ am1, hc_At hc_V0 E 4 X 0 [(0, .ref (E.2.1 7)), (1, .int y1), (2, .int y2)] [] σ am1 [] := by
  have hd1 : 1 ≤ d := by omega
  have hd8 : 9 ≤ d := by omega
  intro m
  induction m with
  | zero =>
    intro σ y1 y2 rl h
    cases h
  | succ m ih =>
    intro σ y1 y2 rl h JX am1
    rw [lp_X7_settle_0] at h
    refine hr_aload_n hC dX7_settle_0 rfl ?_
    refine hr_gI hC F7_5 dX7_settle_1 q570 ?_
    refine hr_iload_n hC dX7_settle_4 rfl ?_
    refine hr_icmp_le (x := _) hC 102 dX7_settle_5 (by decide) (fun c2 => ?_) (fun c2 => ?_)
    · rw [if_pos c2] at h
      obtain rfl := Option.some.inj h
      exact hr_sub _ rfl (JX am1)
    · rw [if_neg c2] at h
      refine hr_aload_n hC dX7_settle_8 rfl ?_
      refine hr_aload_n hC dX7_settle_9 rfl ?_
      refine hr_gA hC F7_4 rfl dX7_settle_10 q569 ?_
      refine hr_aload_n hC dX7_settle_13 rfl ?_
      refine hr_gI hC F7_5 dX7_settle_14 q570 ?_
      refine hr_iconst (v := 1) hC dX7_settle_17 rfl ?_
      refine hr_isub hC dX7_settle_18 ?_
      obtain ⟨c3, h⟩ := hk_ok h
      refine hs_iald hC A7_4 c3 dX7_settle_19 ?_
      obtain ⟨r4, e5, h⟩ := hx_bind h
      refine hs_callV0 hC 7 [_] _ dX7_settle_20 q1421 q1423 qs30 q321 q1424 np_X7 rfl OB_7 pd_X7_rank (Nat.le_of_ble_eq_true rfl) hd1 (okX7_rank l E A (d - 1)  (by omega)  e5 am1) rfl ?_
      refine hr_iload_n hC dX7_settle_23 rfl ?_
      refine hr_icmp_lt (x := _) hC 102 dX7_settle_24 (by decide) (fun c9 => ?_) (fun c9 => ?_)
      · rw [if_pos c9] at h
        obtain rfl := Option.some.inj h
        exact hr_sub _ rfl (JX am1)
      · rw [if_neg c9] at h
        refine hr_aload_n hC dX7_settle_27 rfl ?_
        refine hr_dup hC dX7_settle_28 rfl ?_
        refine hr_gI hC F7_5 dX7_settle_29 q570 ?_
        refine hr_iconst (v := 1) hC dX7_settle_32 rfl ?_
        refine hr_isub hC dX7_settle_33 ?_
        obtain ⟨σ10, hσ10, h⟩ := hl_ok h
        refine hr_pI hC F7_5 PX7_5 dX7_settle_34 q570 ?_
        rw [← hσ10]
        refine hr_aload_n hC dX7_settle_37 rfl ?_
        refine hr_dup hC dX7_settle_38 rfl ?_
        refine hr_gI hC F7_2 dX7_settle_39 q567 ?_
        refine hr_iconst (v := 1) hC dX7_settle_42 rfl ?_
        refine hr_isub hC dX7_settle_43 ?_
        obtain ⟨σ11, hσ11, h⟩ := hl_ok h
        refine hr_pI hC F7_2 PX7_2 dX7_settle_44 q567 ?_
        rw [← hσ11]
        refine hr_aload_n hC dX7_settle_47 rfl ?_
        refine hr_gA hC F7_4 rfl dX7_settle_48 q569 ?_
        refine hr_aload_n hC dX7_settle_51 rfl ?_
        refine hr_gI hC F7_5 dX7_settle_52 q570 ?_
        obtain ⟨c12, h⟩ := hk_ok h
        refine hs_iald hC A7_4 c12 dX7_settle_55 ?_
        refine hr_istore_n hC dX7_settle_56 (by decide) ?_
        refine hr_aload_n hC dX7_settle_57 rfl ?_
        refine hr_gA hC F7_3 rfl dX7_settle_58 q568 ?_
        refine hr_aload_n hC dX7_settle_61 rfl ?_
        refine hr_gI hC F7_5 dX7_settle_62 q570 ?_
        refine hr_aload_n hC dX7_settle_65 rfl ?_
        refine hr_gO 6 hC F7_1 rfl dX7_settle_66 q566 ?_
        refine hr_aload_n hC dX7_settle_69 rfl ?_
        refine hr_iload_n hC dX7_settle_70 rfl ?_
        obtain ⟨r13, e14, h⟩ := hx_bind h
        refine hs_callV0 hC 7 [_] _ dX7_settle_71 q1421 q1423 qs30 q321 q1424 np_X7 rfl OB_7 pd_X7_rank (Nat.le_of_ble_eq_true rfl) hd1 (okX7_rank l E A (d - 1)  (by omega)  e14 am1) rfl ?_
        refine hr_aload_n hC dX7_settle_74 rfl ?_
        refine hr_gA hC F7_3 rfl dX7_settle_75 q568 ?_
        refine hr_aload_n hC dX7_settle_78 rfl ?_
        refine hr_gI hC F7_5 dX7_settle_79 q570 ?_
        obtain ⟨c17, h⟩ := hk_ok h
        refine hs_iald hC A7_3 c17 dX7_settle_82 ?_
        refine hr_iload_n hC dX7_settle_83 rfl ?_
        refine hr_aload_n hC dX7_settle_84 rfl ?_
        refine hr_gA hC F7_3 rfl dX7_settle_85 q568 ?_
        refine hr_aload_n hC dX7_settle_88 rfl ?_
        refine hr_gI hC F7_5 dX7_settle_89 q570 ?_
        refine hr_iconst (v := 1) hC dX7_settle_92 rfl ?_
        refine hr_iadd hC dX7_settle_93 ?_
        obtain ⟨c18, h⟩ := hk_ok h
        refine hs_iald hC A7_3 c18 dX7_settle_94 ?_
        obtain ⟨r19, e20, h⟩ := hx_bind h
        refine hs_callV hC 6 [_, _, _, _] _ dX7_settle_95 q1429 q1430 q1431 q320 q1432 np_X6 rfl OB_6 pd_X6_chain (Nat.le_of_ble_eq_true rfl) hd1 (okX6_chain l E A (d - 1)  (by omega)  e20 am1) (hc_rb rfl) rfl (fun am21 ha22 => ?_)
        rw [show am1 7 3 = am21 7 3 from (ha22 7 3 (by decide)).symm]
        obtain ⟨c23, h⟩ := hk_ok h
        obtain ⟨σ24, hσ24, h⟩ := hl_ok h
        refine hs_iast hC A7_3 c23 dX7_settle_98 ?_
        rw [← hσ24]
        refine hr_goto hC 0 dX7_settle_99 (by decide) ?_
        exact hr_sub _ rfl (ih _ _ _ _ h JX am21)
set_option maxRecDepth 20000 in
set_option maxHeartbeats 4000000 in
theorem okX7_settle (l : Launch) (E : hc_E) (A : Nat → Prop) (d : Nat) (n : Nat) (hD : 9 ≤ d) {x1 : Int32} {x2 : Int32} {σ : hc_St} {r : hc_St} (h : fm_X7_settle n x1 x2 σ = some r) (am : Nat → Nat → Nat) : hc_M l hc_V0 yX7_settle (ws_ yX7_settle cX7_settle 4 none) d E A [.ref (E.2.1 7), .int x1, .int x2] am [6] σ (.inl none) r := by
  have hd1 : 1 ≤ d := by omega
  have hd8 : 9 ≤ d := by omega
  refine hc_enter2 (own := RX7) [(0, .ref (E.2.1 7)), (1, .int x1), (2, .int x2)] pl_X7 rfl hc_V0_st hc_G0_nd rfl (Nat.le_of_ble_eq_true rfl) (fun X hC hem => ?_)
  unfold fm_X7_settle at h
  obtain ⟨r25, e26, h⟩ := hx_bind h
  refine hr_sub _ rfl (ll_X7_settle_0 n hD hem hC n _ _ _ _ e26 (fun am29 => ?_) am)
  obtain rfl := Option.some.inj h
  exact hr_vret hC dX7_settle_102
/-- HomeCompiler$Reader.take(I)V -/
def fm_X7_take (n : Nat) (x1 : Int32) (σ : hc_St) : Option (Nat × Int32 × hc_St) := Option.bind (fm_X7_takes n x1 σ) fun r1 => Option.bind (fm_X7_need r1.1 r1.2) fun r5 => ht r5 <| some (0, 0, r5.2.2)
set_option maxRecDepth 20000 in
set_option maxHeartbeats 4000000 in
theorem okX7_take (l : Launch) (E : hc_E) (A : Nat → Prop) (d : Nat) (n : Nat) (hD : 14 ≤ d) {x1 : Int32} {σ : hc_St} {r : (Nat × Int32 × hc_St)} (h : fm_X7_take n x1 σ = some r) (am : Nat → Nat → Nat) : hc_M l hc_V0 yX7_take (ws_ yX7_take cX7_take 2 none) d E A [.ref (E.2.1 7), .int x1] am [2, 3, 4, 12, 22] σ (hc_ot (fun v => none) r) r.2.2 := by
  have hd1 : 1 ≤ d := by omega
  have hd8 : 9 ≤ d := by omega
  have hd12 : 12 ≤ d := by omega
  refine hc_enter2 (own := RX7) [(0, .ref (E.2.1 7)), (1, .int x1)] pl_X7 rfl hc_V0_st hc_G0_nd rfl (Nat.le_of_ble_eq_true rfl) (fun X hC hem => ?_)
  have HX := fun z => hc_CX hC z
  unfold fm_X7_take at h
  refine hr_aload_n hC dX7_take_0 rfl ?_
  refine hr_iload_n hC dX7_take_1 rfl ?_
  obtain ⟨r1, e2, h⟩ := hx_bind h
  refine hs_callV hC 7 [_] _ dX7_take_2 q1348 q1350 qs19 q321 q1351 np_X7 rfl OB_7 pd_X7_takes (Nat.le_of_ble_eq_true rfl) hd1 (okX7_takes l E A (d - 1) n (by omega)  e2 am) (hc_rb rfl) rfl (fun am3 ha4 => ?_)
  obtain ⟨r5, e6, h⟩ := hx_bind h
  by_cases z9 : r5.1 = 0
  · rw [ht_0 z9] at h
    refine hs_callS0 hC [_] _ dX7_take_5 q1267 q1268 q321 q1269 np_X7 rfl pd_X7_need (Nat.le_of_ble_eq_true rfl) hd1 (hc_M0 (r := r5) (okX7_need l E A (d - 1)  (by omega)  e6 am3) z9) rfl ?_
    obtain rfl := Option.some.inj h
    exact hr_vret hC dX7_take_8
  · rw [ht_1 z9] at h
    obtain rfl := Option.some.inj h
    exact hs_callSx (HX z9) hem [_] _ dX7_take_5 q1267 q1268 q321 q1269 np_X7 rfl pd_X7_need (Nat.le_of_ble_eq_true rfl) hd1 (hc_M1 (r := r5) (okX7_need l E A (d - 1)  (by omega)  e6 am3) z9) (hc_rb rfl) rfl
/-- HomeCompiler$Reader.closes(I)V -/
def fm_X7_closes (n : Nat) (x1 : Int32) (σ : hc_St) : Option (Nat × Int32 × hc_St) := Option.bind (fm_X7_take n x1 σ) fun r1 => ht r1 <| hl (pI r1.2.2 7 2 ((((gI r1.2.2 7 2)) - 1))) fun σ6 => some (0, 0, σ6)
set_option maxRecDepth 20000 in
set_option maxHeartbeats 4000000 in
theorem okX7_closes (l : Launch) (E : hc_E) (A : Nat → Prop) (d : Nat) (n : Nat) (hD : 15 ≤ d) {x1 : Int32} {σ : hc_St} {r : (Nat × Int32 × hc_St)} (h : fm_X7_closes n x1 σ = some r) (am : Nat → Nat → Nat) : hc_M l hc_V0 yX7_closes (ws_ yX7_closes cX7_closes 2 none) d E A [.ref (E.2.1 7), .int x1] am [2, 3, 4, 12, 22] σ (hc_ot (fun v => none) r) r.2.2 := by
  have hd1 : 1 ≤ d := by omega
  have hd8 : 9 ≤ d := by omega
  have hd12 : 12 ≤ d := by omega
  refine hc_enter2 (own := RX7) [(0, .ref (E.2.1 7)), (1, .int x1)] pl_X7 rfl hc_V0_st hc_G0_nd rfl (Nat.le_of_ble_eq_true rfl) (fun X hC hem => ?_)
  have HX := fun z => hc_CX hC z
  unfold fm_X7_closes at h
  refine hr_aload_n hC dX7_closes_0 rfl ?_
  refine hr_iload_n hC dX7_closes_1 rfl ?_
  obtain ⟨r1, e2, h⟩ := hx_bind h
  by_cases z5 : r1.1 = 0
  · rw [ht_0 z5] at h
    refine hs_callV hC 7 [_] _ dX7_closes_2 q1434 q1436 qs32 q321 q1437 np_X7 rfl OB_7 pd_X7_take (Nat.le_of_ble_eq_true rfl) hd1 (hc_M0 (r := r1) (okX7_take l E A (d - 1) n (by omega)  e2 am) z5) (hc_rb rfl) rfl (fun am3 ha4 => ?_)
    refine hr_aload_n hC dX7_closes_5 rfl ?_
    refine hr_dup hC dX7_closes_6 rfl ?_
    refine hr_gI hC F7_2 dX7_closes_7 q567 ?_
    refine hr_iconst (v := 1) hC dX7_closes_10 rfl ?_
    refine hr_isub hC dX7_closes_11 ?_
    obtain ⟨σ6, hσ6, h⟩ := hl_ok h
    refine hr_pI hC F7_2 PX7_2 dX7_closes_12 q567 ?_
    rw [← hσ6]
    obtain rfl := Option.some.inj h
    exact hr_vret hC dX7_closes_15
  · rw [ht_1 z5] at h
    obtain rfl := Option.some.inj h
    exact hs_callVx (HX z5) hem 7 [_] _ dX7_closes_2 q1434 q1436 qs32 q321 q1437 np_X7 rfl OB_7 pd_X7_take (Nat.le_of_ble_eq_true rfl) hd1 (hc_M1 (r := r1) (okX7_take l E A (d - 1) n (by omega)  e2 am) z5) (hc_rb rfl) rfl
def okg_X7_choice (l : Launch) (E : hc_E) (A : Nat → Prop) (d : Nat) (am : Nat → Nat → Nat) (w : Nat) (a : List Int32) (σ : hc_St) (r : (Nat × Int32 × hc_St)) : Prop := match w with
  | 0 => hc_M l hc_V0 yX7_choice (ws_ yX7_choice cX7_choice 3 (some .int)) d E A [.ref (E.2.1 7)] am [2, 3, 4, 6, 12, 22] σ (hc_ot (fun v => some (.int v)) r) r.2.2
  | 1 => hc_M l hc_V0 yX7_operand (ws_ yX7_operand cX7_operand 8 (some .int)) d E A [.ref (E.2.1 7)] am [2, 3, 4, 6, 12, 22] σ (hc_ot (fun v => some (.int v)) r) r.2.2
  | 2 => hc_M l hc_V0 yX7_primary (ws_ yX7_primary cX7_primary 4 (some .int)) d E A [.ref (E.2.1 7)] am [2, 3, 4, 6, 12, 22] σ (hc_ot (fun v => some (.int v)) r) r.2.2
  | 3 => hc_M l hc_V0 yX7_expression (ws_ yX7_expression cX7_expression 5 (some .int)) d E A [.ref (E.2.1 7)] am [2, 3, 4, 6, 12, 22] σ (hc_ot (fun v => some (.int v)) r) r.2.2
  | 4 => hc_M l hc_V0 yX7_choiceBehind (ws_ yX7_choiceBehind cX7_choiceBehind 6 (some .int)) d E A [.ref (E.2.1 7), .int (a.getD 0 0), .int (a.getD 1 0), .int (a.getD 2 0)] am [2, 3, 4, 6, 12, 22] σ (hc_ot (fun v => some (.int v)) r) r.2.2
  | 5 => hc_M l hc_V0 yX7_operation (ws_ yX7_operation cX7_operation 5 (some .int)) d E A [.ref (E.2.1 7), .int (a.getD 0 0), .int (a.getD 1 0)] am [2, 3, 4, 6, 12, 22] σ (hc_ot (fun v => some (.int v)) r) r.2.2
  | 6 => hc_M l hc_V0 yX7_call (ws_ yX7_call cX7_call 4 (some .int)) d E A [.ref (E.2.1 7), .int (a.getD 0 0), .int (a.getD 1 0)] am [2, 3, 4, 6, 12, 22] σ (hc_ot (fun v => some (.int v)) r) r.2.2
  | _ => True
/-- HomeCompiler$Reader.choice()I -/
def bd_X7_choice (n : Nat) (k0 : Nat) (rec : Nat → List Int32 → hc_St → Option (Nat × Int32 × hc_St))  (σ : hc_St) : Option (Nat × Int32 × hc_St) := Option.bind (fm_X5_start  σ) fun r1 => Option.bind (rec 1 [] σ) fun r5 => ht r5 <| Option.bind (rec 4 [r5.2.1, ((gI σ 7 5)), r1] r5.2.2) fun r10 => ht r10 <| some (0, r10.2.1, r10.2.2)
set_option maxRecDepth 20000 in
set_option maxHeartbeats 4000000 in
theorem okbX7_choice (l : Launch) (E : hc_E) (A : Nat → Prop) (d : Nat) {kk : Nat} (n : Nat) (k0 : Nat) (rec : Nat → List Int32 → hc_St → Option (Nat × Int32 × hc_St)) (hD : kk + 16 ≤ d) (IH : ∀ (w : Nat) (a : List Int32) (σ : hc_St) (r : (Nat × Int32 × hc_St)), rec w a σ = some r → ∀ am, okg_X7_choice l E A (d - 1) am w a σ r)  {σ : hc_St} {r : (Nat × Int32 × hc_St)} (h : bd_X7_choice n k0 rec  σ = some r) (am : Nat → Nat → Nat) : hc_M l hc_V0 yX7_choice (ws_ yX7_choice cX7_choice 3 (some .int)) d E A [.ref (E.2.1 7)] am [2, 3, 4, 6, 12, 22] σ (hc_ot (fun v => some (.int v)) r) r.2.2 := by
  have hd1 : 1 ≤ d := by omega
  have hd8 : 9 ≤ d := by omega
  have hd12 : 12 ≤ d := by omega
  refine hc_enter2 (own := RX7) [(0, .ref (E.2.1 7))] pl_X7 rfl hc_V0_st hc_G0_nd rfl (Nat.le_of_ble_eq_true rfl) (fun X hC hem => ?_)
  have HX := fun z => hc_CX hC z
  unfold bd_X7_choice at h
  refine hr_aload_n hC dX7_choice_0 rfl ?_
  refine hr_gO 5 hC F7_0 rfl dX7_choice_1 q565 ?_
  obtain ⟨r1, e2, h⟩ := hx_bind h
  refine hs_callV0 hC 5 [] _ dX7_choice_4 q1258 q1259 q1260 q319 q1261 np_X5 rfl OB_5 pd_X5_start (Nat.le_of_ble_eq_true rfl) hd1 (okX5_start l E A (d - 1)  (by omega)  e2 am) rfl ?_
  refine hr_istore_n hC dX7_choice_7 (by decide) ?_
  refine hr_aload_n hC dX7_choice_8 rfl ?_
  refine hr_gI hC F7_5 dX7_choice_9 q570 ?_
  refine hr_istore_n hC dX7_choice_12 (by decide) ?_
  refine hr_aload_n hC dX7_choice_13 rfl ?_
  refine hr_aload_n hC dX7_choice_14 rfl ?_
  obtain ⟨r5, e6, h⟩ := hx_bind h
  by_cases z9 : r5.1 = 0
  · rw [ht_0 z9] at h
    refine hs_callV hC 7 [] _ dX7_choice_15 q1360 q1362 qs22 q321 q1363 np_X7 rfl OB_7 pd_X7_operand (Nat.le_of_ble_eq_true rfl) hd1 (hc_M0 (r := r5) (IH _ _ _ _ e6 am) z9) (hc_rb rfl) rfl (fun am7 ha8 => ?_)
    refine hr_iload_n hC dX7_choice_18 rfl ?_
    refine hr_iload_n hC dX7_choice_19 rfl ?_
    obtain ⟨r10, e11, h⟩ := hx_bind h
    by_cases z14 : r10.1 = 0
    · rw [ht_0 z14] at h
      refine hs_callV hC 7 [_, _, _] _ dX7_choice_20 q1413 q1415 qs28 q321 q1416 np_X7 rfl OB_7 pd_X7_choiceBehind (Nat.le_of_ble_eq_true rfl) hd1 (hc_M0 (r := r10) (IH _ _ _ _ e11 am7) z14) (hc_rb rfl) rfl (fun am12 ha13 => ?_)
      obtain rfl := Option.some.inj h
      exact hr_iret hC dX7_choice_23
    · rw [ht_1 z14] at h
      obtain rfl := Option.some.inj h
      exact hs_callVx (HX z14) hem 7 [_, _, _] _ dX7_choice_20 q1413 q1415 qs28 q321 q1416 np_X7 rfl OB_7 pd_X7_choiceBehind (Nat.le_of_ble_eq_true rfl) hd1 (hc_M1 (r := r10) (IH _ _ _ _ e11 am7) z14) (hc_rb rfl) rfl
  · rw [ht_1 z9] at h
    obtain rfl := Option.some.inj h
    exact hs_callVx (HX z9) hem 7 [] _ dX7_choice_15 q1360 q1362 qs22 q321 q1363 np_X7 rfl OB_7 pd_X7_operand (Nat.le_of_ble_eq_true rfl) hd1 (hc_M1 (r := r5) (IH _ _ _ _ e6 am) z9) (hc_rb rfl) rfl
/-- HomeCompiler$Reader.operand()I -/
def bd_X7_operand (n : Nat) (k0 : Nat) (rec : Nat → List Int32 → hc_St → Option (Nat × Int32 × hc_St))  (σ : hc_St) : Option (Nat × Int32 × hc_St) := Option.bind (fm_X7_isUnary  σ) fun r1 => if r1 = 0 then (Option.bind (rec 2 [] σ) fun r7 => ht r7 <| Option.bind (fm_X7_is 136 r7.2.2) fun r12 => Option.bind (α := Nat × hc_St × Int32) (if r12 = 0 then (Option.bind (fm_X7_is 137 r7.2.2) fun r39 => if r39 = 0 then (some (0, r7.2.2, r7.2.1)) else (Option.bind (fm_X7_shallow r7.2.1 r7.2.2) fun r45 => hv r45 (0) <| Option.bind (fm_X5_token  r45.2.2) fun r50 => Option.bind (fm_X6_over 36 r50 r7.2.1 r45.2.2) fun r54 => Option.bind (fm_X5_next n r54.2) fun r58 => some (0, r58, r54.1))) else (Option.bind (fm_X7_shallow r7.2.1 r7.2.2) fun r22 => hv r22 (0) <| Option.bind (fm_X5_token  r22.2.2) fun r27 => Option.bind (fm_X6_over 36 r27 r7.2.1 r22.2.2) fun r31 => Option.bind (fm_X5_next n r31.2) fun r35 => some (0, r35, r31.1))) fun r18 => hu r18 <| some (0, r18.2.2, r18.2.1)) else (Option.bind (fm_X5_token  σ) fun r63 => Option.bind (fm_X5_start  σ) fun r67 => Option.bind (fm_X7_opens n σ) fun r71 => ht r71 <| Option.bind (rec 1 [] r71.2.2) fun r76 => ht r76 <| hl (pI r76.2.2 7 2 ((((gI r76.2.2 7 2)) - 1))) fun σ81 => hl (α := Int32) ((if r63 = 136 then 1 else (if r63 = 137 then 1 else 0))) fun v84 => Option.bind (fm_X6_kind r76.2.1 σ81) fun r85 => hl (α := Int32) ((if r63 = 43 then (if r85 = 38 then 0 else (if r85 = 40 then 0 else (if r85 = 39 then 0 else 1))) else 0)) fun v91 => Option.bind (α := hc_St × Int32) (if v91 = 0 then (hl (α := Int32) ((if v84 = 0 then 34 else 35)) fun v100 => Option.bind (fm_X6_over v100 r63 r76.2.1 σ81) fun r101 => some (r101.2, r101.1)) else (some (σ81, r76.2.1))) fun r94 => Option.bind (fm_X6_setPlace r94.2 r67 r94.1) fun r109 => some (0, r94.2, r109))
set_option maxRecDepth 20000 in
set_option maxHeartbeats 4000000 in
theorem okbX7_operand (l : Launch) (E : hc_E) (A : Nat → Prop) (d : Nat) {kk : Nat} (n : Nat) (k0 : Nat) (rec : Nat → List Int32 → hc_St → Option (Nat × Int32 × hc_St)) (hD : kk + 16 ≤ d) (IH : ∀ (w : Nat) (a : List Int32) (σ : hc_St) (r : (Nat × Int32 × hc_St)), rec w a σ = some r → ∀ am, okg_X7_choice l E A (d - 1) am w a σ r)  {σ : hc_St} {r : (Nat × Int32 × hc_St)} (h : bd_X7_operand n k0 rec  σ = some r) (am : Nat → Nat → Nat) : hc_M l hc_V0 yX7_operand (ws_ yX7_operand cX7_operand 8 (some .int)) d E A [.ref (E.2.1 7)] am [2, 3, 4, 6, 12, 22] σ (hc_ot (fun v => some (.int v)) r) r.2.2 := by
  have hd1 : 1 ≤ d := by omega
  have hd8 : 9 ≤ d := by omega
  have hd12 : 12 ≤ d := by omega
  refine hc_enter2 (own := RX7) [(0, .ref (E.2.1 7))] pl_X7 rfl hc_V0_st hc_G0_nd rfl (Nat.le_of_ble_eq_true rfl) (fun X hC hem => ?_)
  have HX := fun z => hc_CX hC z
  unfold bd_X7_operand at h
  refine hr_aload_n hC dX7_operand_0 rfl ?_
  obtain ⟨r1, e2, h⟩ := hx_bind h
  refine hs_callV0 hC 7 [] _ dX7_operand_1 q1364 q1366 qs23 q321 q1367 np_X7 rfl OB_7 pd_X7_isUnary (Nat.le_of_ble_eq_true rfl) hd1 (okX7_isUnary l E A (d - 1)  (by omega)  e2 am) rfl ?_
  refine hr_if_eq (x := _) hC 152 dX7_operand_4 (by decide) (fun c6 => ?_) (fun c6 => ?_)
  · rw [if_pos c6] at h
    refine hr_aload_n hC dX7_operand_152 rfl ?_
    obtain ⟨r7, e8, h⟩ := hx_bind h
    by_cases z11 : r7.1 = 0
    · rw [ht_0 z11] at h
      refine hs_callV hC 7 [] _ dX7_operand_153 q1388 q1390 qs24 q321 q1391 np_X7 rfl OB_7 pd_X7_primary (Nat.le_of_ble_eq_true rfl) hd1 (hc_M0 (r := r7) (IH _ _ _ _ e8 am) z11) (hc_rb rfl) rfl (fun am9 ha10 => ?_)
      refine hr_istore_n hC dX7_operand_156 (by decide) ?_
      refine hr_aload_n hC dX7_operand_157 rfl ?_
      refine hr_sipush (v := 136) hC dX7_operand_158 rfl ?_
      obtain ⟨r12, e13, h⟩ := hx_bind h
      refine hs_callV0 hC 7 [_] _ dX7_operand_161 q1242 q1244 qs12 q321 q1245 np_X7 rfl OB_7 pd_X7_is (Nat.le_of_ble_eq_true rfl) hd1 (okX7_is l E A (d - 1)  (by omega)  e13 am9) rfl ?_
      obtain ⟨r18, e19, h⟩ := hx_bind h
      have J20 : r18.1 = 0 → ∀ am62, hc_At hc_V0 E 8 X 207 [(1, .int r18.2.2)] [] r18.2.1 am62 [] := by
        intro z21 am62
        rw [hu_0 z21] at h
        refine hr_iload_n hC dX7_operand_207 rfl ?_
        obtain rfl := Option.some.inj h
        exact hr_iret hC dX7_operand_208
      have HX : r18.1 ≠ 0 → hc_C hc_V0 E cX7_operand 8 RX7 (some .int) d (.inr r18.1) r18.2.1 (l, A, am, [2, 3, 4, 6, 12, 22]) X := by
        intro z21
        rw [hu_1 z21] at h
        obtain rfl := Option.some.inj h
        exact HX z21
      clear h
      have h := e19
      refine hr_if_ne (x := _) hC 177 dX7_operand_164 (by decide) (fun c17 => ?_) (fun c17 => ?_)
      · rw [if_neg c17] at h
        refine hr_aload_n hC dX7_operand_177 rfl ?_
        refine hr_iload_n hC dX7_operand_178 rfl ?_
        obtain ⟨r22, e23, h⟩ := hx_bind h
        by_cases z26 : r22.1 = 0
        · rw [hv_0 z26] at h
          refine hs_callV0 hC 7 [_] _ dX7_operand_179 q1404 q1406 qs27 q321 q1407 np_X7 rfl OB_7 pd_X7_shallow (Nat.le_of_ble_eq_true rfl) hd1 (hc_M0 (r := r22) (okX7_shallow l E A (d - 1)  (by omega)  e23 am9) z26) rfl ?_
          refine hr_aload_n hC dX7_operand_182 rfl ?_
          refine hr_gO 6 hC F7_1 rfl dX7_operand_183 q566 ?_
          refine hr_bipush (v := 36) hC dX7_operand_186 rfl ?_
          refine hr_aload_n hC dX7_operand_188 rfl ?_
          refine hr_gO 5 hC F7_0 rfl dX7_operand_189 q565 ?_
          obtain ⟨r27, e28, h⟩ := hx_bind h
          refine hs_callV0 hC 5 [] _ dX7_operand_192 q1246 q1247 q1248 q319 q1249 np_X5 rfl OB_5 pd_X5_token (Nat.le_of_ble_eq_true rfl) hd1 (okX5_token l E A (d - 1)  (by omega)  e28 am9) rfl ?_
          refine hr_iload_n hC dX7_operand_195 rfl ?_
          obtain ⟨r31, e32, h⟩ := hx_bind h
          refine hs_callV hC 6 [_, _, _] _ dX7_operand_196 q1372 q1373 q1374 q320 q1375 np_X6 rfl OB_6 pd_X6_over (Nat.le_of_ble_eq_true rfl) hd1 (okX6_over l E A (d - 1)  (by omega)  e32 am9) (hc_rb rfl) rfl (fun am33 ha34 => ?_)
          refine hr_istore_n hC dX7_operand_199 (by decide) ?_
          refine hr_aload_n hC dX7_operand_200 rfl ?_
          refine hr_gO 5 hC F7_0 rfl dX7_operand_201 q565 ?_
          obtain ⟨r35, e36, h⟩ := hx_bind h
          refine hs_callV hC 5 [] _ dX7_operand_204 q1262 q1076 q1077 q319 q1078 np_X5 rfl OB_5 pd_X5_next (Nat.le_of_ble_eq_true rfl) hd1 (okX5_next l E A (d - 1) n (by omega)  e36 am33) (hc_rb rfl) rfl (fun am37 ha38 => ?_)
          obtain rfl := Option.some.inj h
          exact hr_sub _ rfl (J20 rfl am37)
        · rw [hv_1 z26] at h
          obtain rfl := Option.some.inj h
          exact hs_callVx (HX z26) hem 7 [_] _ dX7_operand_179 q1404 q1406 qs27 q321 q1407 np_X7 rfl OB_7 pd_X7_shallow (Nat.le_of_ble_eq_true rfl) hd1 (hc_M1 (r := r22) (okX7_shallow l E A (d - 1)  (by omega)  e23 am9) z26) (hc_rb rfl) rfl
      · rw [if_pos c17] at h
        refine hr_aload_n hC dX7_operand_167 rfl ?_
        refine hr_sipush (v := 137) hC dX7_operand_168 rfl ?_
        obtain ⟨r39, e40, h⟩ := hx_bind h
        refine hs_callV0 hC 7 [_] _ dX7_operand_171 q1242 q1244 qs12 q321 q1245 np_X7 rfl OB_7 pd_X7_is (Nat.le_of_ble_eq_true rfl) hd1 (okX7_is l E A (d - 1)  (by omega)  e40 am9) rfl ?_
        refine hr_if_eq (x := _) hC 207 dX7_operand_174 (by decide) (fun c44 => ?_) (fun c44 => ?_)
        · rw [if_pos c44] at h
          obtain rfl := Option.some.inj h
          exact hr_sub _ rfl (J20 rfl am9)
        · rw [if_neg c44] at h
          refine hr_aload_n hC dX7_operand_177 rfl ?_
          refine hr_iload_n hC dX7_operand_178 rfl ?_
          obtain ⟨r45, e46, h⟩ := hx_bind h
          by_cases z49 : r45.1 = 0
          · rw [hv_0 z49] at h
            refine hs_callV0 hC 7 [_] _ dX7_operand_179 q1404 q1406 qs27 q321 q1407 np_X7 rfl OB_7 pd_X7_shallow (Nat.le_of_ble_eq_true rfl) hd1 (hc_M0 (r := r45) (okX7_shallow l E A (d - 1)  (by omega)  e46 am9) z49) rfl ?_
            refine hr_aload_n hC dX7_operand_182 rfl ?_
            refine hr_gO 6 hC F7_1 rfl dX7_operand_183 q566 ?_
            refine hr_bipush (v := 36) hC dX7_operand_186 rfl ?_
            refine hr_aload_n hC dX7_operand_188 rfl ?_
            refine hr_gO 5 hC F7_0 rfl dX7_operand_189 q565 ?_
            obtain ⟨r50, e51, h⟩ := hx_bind h
            refine hs_callV0 hC 5 [] _ dX7_operand_192 q1246 q1247 q1248 q319 q1249 np_X5 rfl OB_5 pd_X5_token (Nat.le_of_ble_eq_true rfl) hd1 (okX5_token l E A (d - 1)  (by omega)  e51 am9) rfl ?_
            refine hr_iload_n hC dX7_operand_195 rfl ?_
            obtain ⟨r54, e55, h⟩ := hx_bind h
            refine hs_callV hC 6 [_, _, _] _ dX7_operand_196 q1372 q1373 q1374 q320 q1375 np_X6 rfl OB_6 pd_X6_over (Nat.le_of_ble_eq_true rfl) hd1 (okX6_over l E A (d - 1)  (by omega)  e55 am9) (hc_rb rfl) rfl (fun am56 ha57 => ?_)
            refine hr_istore_n hC dX7_operand_199 (by decide) ?_
            refine hr_aload_n hC dX7_operand_200 rfl ?_
            refine hr_gO 5 hC F7_0 rfl dX7_operand_201 q565 ?_
            obtain ⟨r58, e59, h⟩ := hx_bind h
            refine hs_callV hC 5 [] _ dX7_operand_204 q1262 q1076 q1077 q319 q1078 np_X5 rfl OB_5 pd_X5_next (Nat.le_of_ble_eq_true rfl) hd1 (okX5_next l E A (d - 1) n (by omega)  e59 am56) (hc_rb rfl) rfl (fun am60 ha61 => ?_)
            obtain rfl := Option.some.inj h
            exact hr_sub _ rfl (J20 rfl am60)
          · rw [hv_1 z49] at h
            obtain rfl := Option.some.inj h
            exact hs_callVx (HX z49) hem 7 [_] _ dX7_operand_179 q1404 q1406 qs27 q321 q1407 np_X7 rfl OB_7 pd_X7_shallow (Nat.le_of_ble_eq_true rfl) hd1 (hc_M1 (r := r45) (okX7_shallow l E A (d - 1)  (by omega)  e46 am9) z49) (hc_rb rfl) rfl
    · rw [ht_1 z11] at h
      obtain rfl := Option.some.inj h
      exact hs_callVx (HX z11) hem 7 [] _ dX7_operand_153 q1388 q1390 qs24 q321 q1391 np_X7 rfl OB_7 pd_X7_primary (Nat.le_of_ble_eq_true rfl) hd1 (hc_M1 (r := r7) (IH _ _ _ _ e8 am) z11) (hc_rb rfl) rfl
  · rw [if_neg c6] at h
    refine hr_aload_n hC dX7_operand_7 rfl ?_
    refine hr_gO 5 hC F7_0 rfl dX7_operand_8 q565 ?_
    obtain ⟨r63, e64, h⟩ := hx_bind h
    refine hs_callV0 hC 5 [] _ dX7_operand_11 q1246 q1247 q1248 q319 q1249 np_X5 rfl OB_5 pd_X5_token (Nat.le_of_ble_eq_true rfl) hd1 (okX5_token l E A (d - 1)  (by omega)  e64 am) rfl ?_
    refine hr_istore_n hC dX7_operand_14 (by decide) ?_
    refine hr_aload_n hC dX7_operand_15 rfl ?_
    refine hr_gO 5 hC F7_0 rfl dX7_operand_16 q565 ?_
    obtain ⟨r67, e68, h⟩ := hx_bind h
    refine hs_callV0 hC 5 [] _ dX7_operand_19 q1258 q1259 q1260 q319 q1261 np_X5 rfl OB_5 pd_X5_start (Nat.le_of_ble_eq_true rfl) hd1 (okX5_start l E A (d - 1)  (by omega)  e68 am) rfl ?_
    refine hr_istore_n hC dX7_operand_22 (by decide) ?_
    refine hr_aload_n hC dX7_operand_23 rfl ?_
    obtain ⟨r71, e72, h⟩ := hx_bind h
    by_cases z75 : r71.1 = 0
    · rw [ht_0 z75] at h
      refine hs_callV hC 7 [] _ dX7_operand_24 q1336 q1338 qs17 q321 q1339 np_X7 rfl OB_7 pd_X7_opens (Nat.le_of_ble_eq_true rfl) hd1 (hc_M0 (r := r71) (okX7_opens l E A (d - 1) n (by omega)  e72 am) z75) (hc_rb rfl) rfl (fun am73 ha74 => ?_)
      refine hr_aload_n hC dX7_operand_27 rfl ?_
      obtain ⟨r76, e77, h⟩ := hx_bind h
      by_cases z80 : r76.1 = 0
      · rw [ht_0 z80] at h
        refine hs_callV hC 7 [] _ dX7_operand_28 q1360 q1362 qs22 q321 q1363 np_X7 rfl OB_7 pd_X7_operand (Nat.le_of_ble_eq_true rfl) hd1 (hc_M0 (r := r76) (IH _ _ _ _ e77 am73) z80) (hc_rb rfl) rfl (fun am78 ha79 => ?_)
        refine hr_istore_n hC dX7_operand_31 (by decide) ?_
        refine hr_aload_n hC dX7_operand_32 rfl ?_
        refine hr_dup hC dX7_operand_33 rfl ?_
        refine hr_gI hC F7_2 dX7_operand_34 q567 ?_
        refine hr_iconst (v := 1) hC dX7_operand_37 rfl ?_
        refine hr_isub hC dX7_operand_38 ?_
        obtain ⟨σ81, hσ81, h⟩ := hl_ok h
        refine hr_pI hC F7_2 PX7_2 dX7_operand_39 q567 ?_
        rw [← hσ81]
        refine hr_iload_n hC dX7_operand_42 rfl ?_
        refine hr_sipush (v := 136) hC dX7_operand_43 rfl ?_
        obtain ⟨v84, hv84, h⟩ := hl_ok h
        have J119 : ∀ w120 : Int32, (if r63 = 136 then 1 else (if r63 = 137 then 1 else 0)) = w120 → hc_At hc_V0 E 8 X 61 [(0, .ref (E.2.1 7)), (1, .int r63), (2, .int r67), (3, .int r76.2.1)] [.int w120] σ81 am78 [] := by
          intro w120 hw120
          obtain rfl := hv84.trans hw120
          refine hr_istore hC dX7_operand_61 (by decide) ?_
          refine hr_aload_n hC dX7_operand_63 rfl ?_
          refine hr_gO 6 hC F7_1 rfl dX7_operand_64 q566 ?_
          refine hr_iload_n hC dX7_operand_67 rfl ?_
          obtain ⟨r85, e86, h⟩ := hx_bind h
          refine hs_callV0 hC 6 [_] _ dX7_operand_68 q1368 q1369 q1370 q320 q1371 np_X6 rfl OB_6 pd_X6_kind (Nat.le_of_ble_eq_true rfl) hd1 (okX6_kind l E A (d - 1)  (by omega)  e86 am78) rfl ?_
          refine hr_istore hC dX7_operand_71 (by decide) ?_
          refine hr_iload_n hC dX7_operand_73 rfl ?_
          refine hr_bipush (v := 43) hC dX7_operand_74 rfl ?_
          obtain ⟨v91, hv91, h⟩ := hl_ok h
          have J113 : ∀ w114 : Int32, (if r63 = 43 then (if r85 = 38 then 0 else (if r85 = 40 then 0 else (if r85 = 39 then 0 else 1))) else 0) = w114 → hc_At hc_V0 E 8 X 105 [(0, .ref (E.2.1 7)), (1, .int r63), (2, .int r67), (3, .int r76.2.1), (4, .int v84)] [.int w114] σ81 am78 [] := by
            intro w114 hw114
            obtain rfl := hv91.trans hw114
            refine hr_istore hC dX7_operand_105 (by decide) ?_
            refine hr_iload hC dX7_operand_107 rfl ?_
            obtain ⟨r94, e95, h⟩ := hx_bind h
            have J96 : ∀ am108, hc_At hc_V0 E 8 X 137 [(0, .ref (E.2.1 7)), (2, .int r67)] [.int r94.2] r94.1 am108 [] := by
              intro am108
              refine hr_istore hC dX7_operand_137 (by decide) ?_
              refine hr_aload_n hC dX7_operand_139 rfl ?_
              refine hr_gO 6 hC F7_1 rfl dX7_operand_140 q566 ?_
              refine hr_iload hC dX7_operand_143 rfl ?_
              refine hr_iload_n hC dX7_operand_145 rfl ?_
              obtain ⟨r109, e110, h⟩ := hx_bind h
              refine hs_callV0 hC 6 [_, _] _ dX7_operand_146 q1384 q1385 q1386 q320 q1387 np_X6 rfl OB_6 pd_X6_setPlace (Nat.le_of_ble_eq_true rfl) hd1 (okX6_setPlace l E A (d - 1)  (by omega)  e110 am108) rfl ?_
              refine hr_iload hC dX7_operand_149 rfl ?_
              obtain rfl := Option.some.inj h
              exact hr_iret hC dX7_operand_151
            clear h
            have h := e95
            refine hr_if_eq (x := _) hC 116 dX7_operand_109 (by decide) (fun c93 => ?_) (fun c93 => ?_)
            · rw [if_pos c93] at h
              refine hr_aload_n hC dX7_operand_116 rfl ?_
              refine hr_gO 6 hC F7_1 rfl dX7_operand_117 q566 ?_
              refine hr_iload hC dX7_operand_120 rfl ?_
              obtain ⟨v100, hv100, h⟩ := hl_ok h
              have J105 : ∀ w106 : Int32, (if v84 = 0 then 34 else 35) = w106 → hc_At hc_V0 E 8 X 132 [(0, .ref (E.2.1 7)), (1, .int r63), (2, .int r67), (3, .int r76.2.1)] [.int w106, .ref (E.2.1 6)] σ81 am78 [] := by
                intro w106 hw106
                obtain rfl := hv100.trans hw106
                refine hr_iload_n hC dX7_operand_132 rfl ?_
                refine hr_iload_n hC dX7_operand_133 rfl ?_
                obtain ⟨r101, e102, h⟩ := hx_bind h
                refine hs_callV hC 6 [_, _, _] _ dX7_operand_134 q1372 q1373 q1374 q320 q1375 np_X6 rfl OB_6 pd_X6_over (Nat.le_of_ble_eq_true rfl) hd1 (okX6_over l E A (d - 1)  (by omega)  e102 am78) (hc_rb rfl) rfl (fun am103 ha104 => ?_)
                obtain rfl := Option.some.inj h
                exact hr_sub _ rfl (J96 am103)
              refine hr_if_eq (x := _) hC 130 dX7_operand_122 (by decide) (fun c107 => ?_) (fun c107 => ?_)
              · refine hr_bipush (v := 34) hC dX7_operand_130 rfl ?_
                exact hr_sub _ rfl (J105 _ (by first | (rw [if_pos c107]; done) | (simp only [if_pos c107]; done) | rfl))
              · refine hr_bipush (v := 35) hC dX7_operand_125 rfl ?_
                refine hr_goto hC 132 dX7_operand_127 (by decide) ?_
                exact hr_sub _ rfl (J105 _ (by first | (rw [if_neg c107]; done) | (simp only [if_neg c107]; done) | rfl))
            · rw [if_neg c93] at h
              refine hr_iload_n hC dX7_operand_112 rfl ?_
              refine hr_goto hC 137 dX7_operand_113 (by decide) ?_
              obtain rfl := Option.some.inj h
              exact hr_sub _ rfl (J96 am78)
          refine hr_icmp_ne (x := _) hC 104 dX7_operand_76 (by decide) (fun c115 => ?_) (fun c115 => ?_)
          · refine hr_iconst (v := 0) hC dX7_operand_104 rfl ?_
            exact hr_sub _ rfl (J113 _ (by first | (rw [if_neg c115]; done) | (simp only [if_neg c115]; done) | rfl))
          · refine hr_iload hC dX7_operand_79 rfl ?_
            refine hr_bipush (v := 38) hC dX7_operand_81 rfl ?_
            refine hr_icmp_eq (x := _) hC 104 dX7_operand_83 (by decide) (fun c116 => ?_) (fun c116 => ?_)
            · refine hr_iconst (v := 0) hC dX7_operand_104 rfl ?_
              exact hr_sub _ rfl (J113 _ (by first | (rw [if_pos c115, if_pos c116]; done) | (simp only [if_pos c115, if_pos c116]; done) | rfl))
            · refine hr_iload hC dX7_operand_86 rfl ?_
              refine hr_bipush (v := 40) hC dX7_operand_88 rfl ?_
              refine hr_icmp_eq (x := _) hC 104 dX7_operand_90 (by decide) (fun c117 => ?_) (fun c117 => ?_)
              · refine hr_iconst (v := 0) hC dX7_operand_104 rfl ?_
                exact hr_sub _ rfl (J113 _ (by first | (rw [if_pos c115, if_neg c116, if_pos c117]; done) | (simp only [if_pos c115, if_neg c116, if_pos c117]; done) | rfl))
              · refine hr_iload hC dX7_operand_93 rfl ?_
                refine hr_bipush (v := 39) hC dX7_operand_95 rfl ?_
                refine hr_icmp_eq (x := _) hC 104 dX7_operand_97 (by decide) (fun c118 => ?_) (fun c118 => ?_)
                · refine hr_iconst (v := 0) hC dX7_operand_104 rfl ?_
                  exact hr_sub _ rfl (J113 _ (by first | (rw [if_pos c115, if_neg c116, if_neg c117, if_pos c118]; done) | (simp only [if_pos c115, if_neg c116, if_neg c117, if_pos c118]; done) | rfl))
                · refine hr_iconst (v := 1) hC dX7_operand_100 rfl ?_
                  refine hr_goto hC 105 dX7_operand_101 (by decide) ?_
                  exact hr_sub _ rfl (J113 _ (by first | (rw [if_pos c115, if_neg c116, if_neg c117, if_neg c118]; done) | (simp only [if_pos c115, if_neg c116, if_neg c117, if_neg c118]; done) | rfl))
        refine hr_icmp_eq (x := _) hC 56 dX7_operand_46 (by decide) (fun c121 => ?_) (fun c121 => ?_)
        · refine hr_iconst (v := 1) hC dX7_operand_56 rfl ?_
          refine hr_goto hC 61 dX7_operand_57 (by decide) ?_
          exact hr_sub _ rfl (J119 _ (by first | (rw [if_pos c121]; done) | (simp only [if_pos c121]; done) | rfl))
        · refine hr_iload_n hC dX7_operand_49 rfl ?_
          refine hr_sipush (v := 137) hC dX7_operand_50 rfl ?_
          refine hr_icmp_ne (x := _) hC 60 dX7_operand_53 (by decide) (fun c122 => ?_) (fun c122 => ?_)
          · refine hr_iconst (v := 0) hC dX7_operand_60 rfl ?_
            exact hr_sub _ rfl (J119 _ (by first | (rw [if_neg c121, if_neg c122]; done) | (simp only [if_neg c121, if_neg c122]; done) | rfl))
          · refine hr_iconst (v := 1) hC dX7_operand_56 rfl ?_
            refine hr_goto hC 61 dX7_operand_57 (by decide) ?_
            exact hr_sub _ rfl (J119 _ (by first | (rw [if_neg c121, if_pos c122]; done) | (simp only [if_neg c121, if_pos c122]; done) | rfl))
      · rw [ht_1 z80] at h
        obtain rfl := Option.some.inj h
        exact hs_callVx (HX z80) hem 7 [] _ dX7_operand_28 q1360 q1362 qs22 q321 q1363 np_X7 rfl OB_7 pd_X7_operand (Nat.le_of_ble_eq_true rfl) hd1 (hc_M1 (r := r76) (IH _ _ _ _ e77 am73) z80) (hc_rb rfl) rfl
    · rw [ht_1 z75] at h
      obtain rfl := Option.some.inj h
      exact hs_callVx (HX z75) hem 7 [] _ dX7_operand_24 q1336 q1338 qs17 q321 q1339 np_X7 rfl OB_7 pd_X7_opens (Nat.le_of_ble_eq_true rfl) hd1 (hc_M1 (r := r71) (okX7_opens l E A (d - 1) n (by omega)  e72 am) z75) (hc_rb rfl) rfl
/-- HomeCompiler$Reader.primary()I -/
def bd_X7_primary (n : Nat) (k0 : Nat) (rec : Nat → List Int32 → hc_St → Option (Nat × Int32 × hc_St))  (σ : hc_St) : Option (Nat × Int32 × hc_St) := Option.bind (fm_X5_start  σ) fun r1 => Option.bind (fm_X7_is 2 σ) fun r5 => if r5 = 0 then (Option.bind (fm_X7_is 40 σ) fun r11 => if r11 = 0 then (Option.bind (fm_X7_name n σ) fun r17 => ht r17 <| Option.bind (fm_X7_is 40 r17.2.2) fun r22 => if r22 = 0 then (Option.bind (fm_X7_is 91 r17.2.2) fun r28 => if r28 = 0 then (Option.bind (fm_X6_make 38 r1 r17.2.1 r1 r17.2.2) fun r34 => some (0, r34.1, r34.2)) else (Option.bind (fm_X6_make 40 r1 r17.2.1 r1 r17.2.2) fun r38 => Option.bind (fm_X7_opens n r38.2) fun r42 => ht r42 <| Option.bind (rec 3 [] r42.2.2) fun r47 => ht r47 <| Option.bind (fm_X6_hang r38.1 r47.2.1 r47.2.2) fun r52 => Option.bind (fm_X7_closes n 93 r52) fun r56 => ht r56 <| some (0, r38.1, r56.2.2))) else (Option.bind (rec 6 [r17.2.1, r1] r17.2.2) fun r61 => ht r61 <| some (0, r61.2.1, r61.2.2))) else (Option.bind (fm_X7_opens n σ) fun r66 => ht r66 <| Option.bind (rec 3 [] r66.2.2) fun r71 => ht r71 <| Option.bind (fm_X7_closes n 41 r71.2.2) fun r76 => ht r76 <| Option.bind (fm_X6_setPlace r71.2.1 r1 r76.2.2) fun r81 => some (0, r71.2.1, r81))) else (Option.bind (fm_X5_number  σ) fun r85 => Option.bind (fm_X6_make 37 0 r85 r1 σ) fun r89 => Option.bind (fm_X5_next n r89.2) fun r93 => some (0, r89.1, r93))
set_option maxRecDepth 20000 in
set_option maxHeartbeats 4000000 in
theorem okbX7_primary (l : Launch) (E : hc_E) (A : Nat → Prop) (d : Nat) {kk : Nat} (n : Nat) (k0 : Nat) (rec : Nat → List Int32 → hc_St → Option (Nat × Int32 × hc_St)) (hD : kk + 16 ≤ d) (IH : ∀ (w : Nat) (a : List Int32) (σ : hc_St) (r : (Nat × Int32 × hc_St)), rec w a σ = some r → ∀ am, okg_X7_choice l E A (d - 1) am w a σ r)  {σ : hc_St} {r : (Nat × Int32 × hc_St)} (h : bd_X7_primary n k0 rec  σ = some r) (am : Nat → Nat → Nat) : hc_M l hc_V0 yX7_primary (ws_ yX7_primary cX7_primary 4 (some .int)) d E A [.ref (E.2.1 7)] am [2, 3, 4, 6, 12, 22] σ (hc_ot (fun v => some (.int v)) r) r.2.2 := by
  have hd1 : 1 ≤ d := by omega
  have hd8 : 9 ≤ d := by omega
  have hd12 : 12 ≤ d := by omega
  refine hc_enter2 (own := RX7) [(0, .ref (E.2.1 7))] pl_X7 rfl hc_V0_st hc_G0_nd rfl (Nat.le_of_ble_eq_true rfl) (fun X hC hem => ?_)
  have HX := fun z => hc_CX hC z
  unfold bd_X7_primary at h
  refine hr_aload_n hC dX7_primary_0 rfl ?_
  refine hr_gO 5 hC F7_0 rfl dX7_primary_1 q565 ?_
  obtain ⟨r1, e2, h⟩ := hx_bind h
  refine hs_callV0 hC 5 [] _ dX7_primary_4 q1258 q1259 q1260 q319 q1261 np_X5 rfl OB_5 pd_X5_start (Nat.le_of_ble_eq_true rfl) hd1 (okX5_start l E A (d - 1)  (by omega)  e2 am) rfl ?_
  refine hr_istore_n hC dX7_primary_7 (by decide) ?_
  refine hr_aload_n hC dX7_primary_8 rfl ?_
  refine hr_iconst (v := 2) hC dX7_primary_9 rfl ?_
  obtain ⟨r5, e6, h⟩ := hx_bind h
  refine hs_callV0 hC 7 [_] _ dX7_primary_10 q1242 q1244 qs12 q321 q1245 np_X7 rfl OB_7 pd_X7_is (Nat.le_of_ble_eq_true rfl) hd1 (okX7_is l E A (d - 1)  (by omega)  e6 am) rfl ?_
  refine hr_if_eq (x := _) hC 44 dX7_primary_13 (by decide) (fun c10 => ?_) (fun c10 => ?_)
  · rw [if_pos c10] at h
    refine hr_aload_n hC dX7_primary_44 rfl ?_
    refine hr_bipush (v := 40) hC dX7_primary_45 rfl ?_
    obtain ⟨r11, e12, h⟩ := hx_bind h
    refine hs_callV0 hC 7 [_] _ dX7_primary_47 q1242 q1244 qs12 q321 q1245 np_X7 rfl OB_7 pd_X7_is (Nat.le_of_ble_eq_true rfl) hd1 (okX7_is l E A (d - 1)  (by omega)  e12 am) rfl ?_
    refine hr_if_eq (x := _) hC 79 dX7_primary_50 (by decide) (fun c16 => ?_) (fun c16 => ?_)
    · rw [if_pos c16] at h
      refine hr_aload_n hC dX7_primary_79 rfl ?_
      obtain ⟨r17, e18, h⟩ := hx_bind h
      by_cases z21 : r17.1 = 0
      · rw [ht_0 z21] at h
        refine hs_callV hC 7 [] _ dX7_primary_80 q1340 q1342 qs18 q321 q1343 np_X7 rfl OB_7 pd_X7_name (Nat.le_of_ble_eq_true rfl) hd1 (hc_M0 (r := r17) (okX7_name l E A (d - 1) n (by omega)  e18 am) z21) (hc_rb rfl) rfl (fun am19 ha20 => ?_)
        refine hr_istore_n hC dX7_primary_83 (by decide) ?_
        refine hr_aload_n hC dX7_primary_84 rfl ?_
        refine hr_bipush (v := 40) hC dX7_primary_85 rfl ?_
        obtain ⟨r22, e23, h⟩ := hx_bind h
        refine hs_callV0 hC 7 [_] _ dX7_primary_87 q1242 q1244 qs12 q321 q1245 np_X7 rfl OB_7 pd_X7_is (Nat.le_of_ble_eq_true rfl) hd1 (okX7_is l E A (d - 1)  (by omega)  e23 am19) rfl ?_
        refine hr_if_eq (x := _) hC 100 dX7_primary_90 (by decide) (fun c27 => ?_) (fun c27 => ?_)
        · rw [if_pos c27] at h
          refine hr_aload_n hC dX7_primary_100 rfl ?_
          refine hr_bipush (v := 91) hC dX7_primary_101 rfl ?_
          obtain ⟨r28, e29, h⟩ := hx_bind h
          refine hs_callV0 hC 7 [_] _ dX7_primary_103 q1242 q1244 qs12 q321 q1245 np_X7 rfl OB_7 pd_X7_is (Nat.le_of_ble_eq_true rfl) hd1 (okX7_is l E A (d - 1)  (by omega)  e29 am19) rfl ?_
          refine hr_if_eq (x := _) hC 146 dX7_primary_106 (by decide) (fun c33 => ?_) (fun c33 => ?_)
          · rw [if_pos c33] at h
            refine hr_aload_n hC dX7_primary_146 rfl ?_
            refine hr_gO 6 hC F7_1 rfl dX7_primary_147 q566 ?_
            refine hr_bipush (v := 38) hC dX7_primary_150 rfl ?_
            refine hr_iload_n hC dX7_primary_152 rfl ?_
            refine hr_iload_n hC dX7_primary_153 rfl ?_
            refine hr_iload_n hC dX7_primary_154 rfl ?_
            obtain ⟨r34, e35, h⟩ := hx_bind h
            refine hs_callV hC 6 [_, _, _, _] _ dX7_primary_155 q1230 q1231 q1232 q320 q1233 np_X6 rfl OB_6 pd_X6_make (Nat.le_of_ble_eq_true rfl) hd1 (okX6_make l E A (d - 1)  (by omega)  e35 am19) (hc_rb rfl) rfl (fun am36 ha37 => ?_)
            obtain rfl := Option.some.inj h
            exact hr_iret hC dX7_primary_158
          · rw [if_neg c33] at h
            refine hr_aload_n hC dX7_primary_109 rfl ?_
            refine hr_gO 6 hC F7_1 rfl dX7_primary_110 q566 ?_
            refine hr_bipush (v := 40) hC dX7_primary_113 rfl ?_
            refine hr_iload_n hC dX7_primary_115 rfl ?_
            refine hr_iload_n hC dX7_primary_116 rfl ?_
            refine hr_iload_n hC dX7_primary_117 rfl ?_
            obtain ⟨r38, e39, h⟩ := hx_bind h
            refine hs_callV hC 6 [_, _, _, _] _ dX7_primary_118 q1230 q1231 q1232 q320 q1233 np_X6 rfl OB_6 pd_X6_make (Nat.le_of_ble_eq_true rfl) hd1 (okX6_make l E A (d - 1)  (by omega)  e39 am19) (hc_rb rfl) rfl (fun am40 ha41 => ?_)
            refine hr_istore_n hC dX7_primary_121 (by decide) ?_
            refine hr_aload_n hC dX7_primary_122 rfl ?_
            obtain ⟨r42, e43, h⟩ := hx_bind h
            by_cases z46 : r42.1 = 0
            · rw [ht_0 z46] at h
              refine hs_callV hC 7 [] _ dX7_primary_123 q1336 q1338 qs17 q321 q1339 np_X7 rfl OB_7 pd_X7_opens (Nat.le_of_ble_eq_true rfl) hd1 (hc_M0 (r := r42) (okX7_opens l E A (d - 1) n (by omega)  e43 am40) z46) (hc_rb rfl) rfl (fun am44 ha45 => ?_)
              refine hr_aload_n hC dX7_primary_126 rfl ?_
              refine hr_gO 6 hC F7_1 rfl dX7_primary_127 q566 ?_
              refine hr_iload_n hC dX7_primary_130 rfl ?_
              refine hr_aload_n hC dX7_primary_131 rfl ?_
              obtain ⟨r47, e48, h⟩ := hx_bind h
              by_cases z51 : r47.1 = 0
              · rw [ht_0 z51] at h
                refine hs_callV hC 7 [] _ dX7_primary_132 q1396 q1398 qs25 q321 q1399 np_X7 rfl OB_7 pd_X7_expression (Nat.le_of_ble_eq_true rfl) hd1 (hc_M0 (r := r47) (IH _ _ _ _ e48 am44) z51) (hc_rb rfl) rfl (fun am49 ha50 => ?_)
                obtain ⟨r52, e53, h⟩ := hx_bind h
                refine hs_callV0 hC 6 [_, _] _ dX7_primary_135 q1412 q1378 q1379 q320 q1380 np_X6 rfl OB_6 pd_X6_hang (Nat.le_of_ble_eq_true rfl) hd1 (okX6_hang l E A (d - 1)  (by omega)  e53 am49) rfl ?_
                refine hr_aload_n hC dX7_primary_138 rfl ?_
                refine hr_bipush (v := 93) hC dX7_primary_139 rfl ?_
                obtain ⟨r56, e57, h⟩ := hx_bind h
                by_cases z60 : r56.1 = 0
                · rw [ht_0 z60] at h
                  refine hs_callV hC 7 [_] _ dX7_primary_141 q1438 q1440 qs33 q321 q1441 np_X7 rfl OB_7 pd_X7_closes (Nat.le_of_ble_eq_true rfl) hd1 (hc_M0 (r := r56) (okX7_closes l E A (d - 1) n (by omega)  e57 am49) z60) (hc_rb rfl) rfl (fun am58 ha59 => ?_)
                  refine hr_iload_n hC dX7_primary_144 rfl ?_
                  obtain rfl := Option.some.inj h
                  exact hr_iret hC dX7_primary_145
                · rw [ht_1 z60] at h
                  obtain rfl := Option.some.inj h
                  exact hs_callVx (HX z60) hem 7 [_] _ dX7_primary_141 q1438 q1440 qs33 q321 q1441 np_X7 rfl OB_7 pd_X7_closes (Nat.le_of_ble_eq_true rfl) hd1 (hc_M1 (r := r56) (okX7_closes l E A (d - 1) n (by omega)  e57 am49) z60) (hc_rb rfl) rfl
              · rw [ht_1 z51] at h
                obtain rfl := Option.some.inj h
                exact hs_callVx (HX z51) hem 7 [] _ dX7_primary_132 q1396 q1398 qs25 q321 q1399 np_X7 rfl OB_7 pd_X7_expression (Nat.le_of_ble_eq_true rfl) hd1 (hc_M1 (r := r47) (IH _ _ _ _ e48 am44) z51) (hc_rb rfl) rfl
            · rw [ht_1 z46] at h
              obtain rfl := Option.some.inj h
              exact hs_callVx (HX z46) hem 7 [] _ dX7_primary_123 q1336 q1338 qs17 q321 q1339 np_X7 rfl OB_7 pd_X7_opens (Nat.le_of_ble_eq_true rfl) hd1 (hc_M1 (r := r42) (okX7_opens l E A (d - 1) n (by omega)  e43 am40) z46) (hc_rb rfl) rfl
        · rw [if_neg c27] at h
          refine hr_aload_n hC dX7_primary_93 rfl ?_
          refine hr_iload_n hC dX7_primary_94 rfl ?_
          refine hr_iload_n hC dX7_primary_95 rfl ?_
          obtain ⟨r61, e62, h⟩ := hx_bind h
          by_cases z65 : r61.1 = 0
          · rw [ht_0 z65] at h
            refine hs_callV hC 7 [_, _] _ dX7_primary_96 q1442 q1444 qs34 q321 q1445 np_X7 rfl OB_7 pd_X7_call (Nat.le_of_ble_eq_true rfl) hd1 (hc_M0 (r := r61) (IH _ _ _ _ e62 am19) z65) (hc_rb rfl) rfl (fun am63 ha64 => ?_)
            obtain rfl := Option.some.inj h
            exact hr_iret hC dX7_primary_99
          · rw [ht_1 z65] at h
            obtain rfl := Option.some.inj h
            exact hs_callVx (HX z65) hem 7 [_, _] _ dX7_primary_96 q1442 q1444 qs34 q321 q1445 np_X7 rfl OB_7 pd_X7_call (Nat.le_of_ble_eq_true rfl) hd1 (hc_M1 (r := r61) (IH _ _ _ _ e62 am19) z65) (hc_rb rfl) rfl
      · rw [ht_1 z21] at h
        obtain rfl := Option.some.inj h
        exact hs_callVx (HX z21) hem 7 [] _ dX7_primary_80 q1340 q1342 qs18 q321 q1343 np_X7 rfl OB_7 pd_X7_name (Nat.le_of_ble_eq_true rfl) hd1 (hc_M1 (r := r17) (okX7_name l E A (d - 1) n (by omega)  e18 am) z21) (hc_rb rfl) rfl
    · rw [if_neg c16] at h
      refine hr_aload_n hC dX7_primary_53 rfl ?_
      obtain ⟨r66, e67, h⟩ := hx_bind h
      by_cases z70 : r66.1 = 0
      · rw [ht_0 z70] at h
        refine hs_callV hC 7 [] _ dX7_primary_54 q1336 q1338 qs17 q321 q1339 np_X7 rfl OB_7 pd_X7_opens (Nat.le_of_ble_eq_true rfl) hd1 (hc_M0 (r := r66) (okX7_opens l E A (d - 1) n (by omega)  e67 am) z70) (hc_rb rfl) rfl (fun am68 ha69 => ?_)
        refine hr_aload_n hC dX7_primary_57 rfl ?_
        obtain ⟨r71, e72, h⟩ := hx_bind h
        by_cases z75 : r71.1 = 0
        · rw [ht_0 z75] at h
          refine hs_callV hC 7 [] _ dX7_primary_58 q1396 q1398 qs25 q321 q1399 np_X7 rfl OB_7 pd_X7_expression (Nat.le_of_ble_eq_true rfl) hd1 (hc_M0 (r := r71) (IH _ _ _ _ e72 am68) z75) (hc_rb rfl) rfl (fun am73 ha74 => ?_)
          refine hr_istore_n hC dX7_primary_61 (by decide) ?_
          refine hr_aload_n hC dX7_primary_62 rfl ?_
          refine hr_bipush (v := 41) hC dX7_primary_63 rfl ?_
          obtain ⟨r76, e77, h⟩ := hx_bind h
          by_cases z80 : r76.1 = 0
          · rw [ht_0 z80] at h
            refine hs_callV hC 7 [_] _ dX7_primary_65 q1438 q1440 qs33 q321 q1441 np_X7 rfl OB_7 pd_X7_closes (Nat.le_of_ble_eq_true rfl) hd1 (hc_M0 (r := r76) (okX7_closes l E A (d - 1) n (by omega)  e77 am73) z80) (hc_rb rfl) rfl (fun am78 ha79 => ?_)
            refine hr_aload_n hC dX7_primary_68 rfl ?_
            refine hr_gO 6 hC F7_1 rfl dX7_primary_69 q566 ?_
            refine hr_iload_n hC dX7_primary_72 rfl ?_
            refine hr_iload_n hC dX7_primary_73 rfl ?_
            obtain ⟨r81, e82, h⟩ := hx_bind h
            refine hs_callV0 hC 6 [_, _] _ dX7_primary_74 q1384 q1385 q1386 q320 q1387 np_X6 rfl OB_6 pd_X6_setPlace (Nat.le_of_ble_eq_true rfl) hd1 (okX6_setPlace l E A (d - 1)  (by omega)  e82 am78) rfl ?_
            refine hr_iload_n hC dX7_primary_77 rfl ?_
            obtain rfl := Option.some.inj h
            exact hr_iret hC dX7_primary_78
          · rw [ht_1 z80] at h
            obtain rfl := Option.some.inj h
            exact hs_callVx (HX z80) hem 7 [_] _ dX7_primary_65 q1438 q1440 qs33 q321 q1441 np_X7 rfl OB_7 pd_X7_closes (Nat.le_of_ble_eq_true rfl) hd1 (hc_M1 (r := r76) (okX7_closes l E A (d - 1) n (by omega)  e77 am73) z80) (hc_rb rfl) rfl
        · rw [ht_1 z75] at h
          obtain rfl := Option.some.inj h
          exact hs_callVx (HX z75) hem 7 [] _ dX7_primary_58 q1396 q1398 qs25 q321 q1399 np_X7 rfl OB_7 pd_X7_expression (Nat.le_of_ble_eq_true rfl) hd1 (hc_M1 (r := r71) (IH _ _ _ _ e72 am68) z75) (hc_rb rfl) rfl
      · rw [ht_1 z70] at h
        obtain rfl := Option.some.inj h
        exact hs_callVx (HX z70) hem 7 [] _ dX7_primary_54 q1336 q1338 qs17 q321 q1339 np_X7 rfl OB_7 pd_X7_opens (Nat.le_of_ble_eq_true rfl) hd1 (hc_M1 (r := r66) (okX7_opens l E A (d - 1) n (by omega)  e67 am) z70) (hc_rb rfl) rfl
  · rw [if_neg c10] at h
    refine hr_aload_n hC dX7_primary_16 rfl ?_
    refine hr_gO 6 hC F7_1 rfl dX7_primary_17 q566 ?_
    refine hr_bipush (v := 37) hC dX7_primary_20 rfl ?_
    refine hr_iconst (v := 0) hC dX7_primary_22 rfl ?_
    refine hr_aload_n hC dX7_primary_23 rfl ?_
    refine hr_gO 5 hC F7_0 rfl dX7_primary_24 q565 ?_
    obtain ⟨r85, e86, h⟩ := hx_bind h
    refine hs_callV0 hC 5 [] _ dX7_primary_27 q1392 q1393 q1394 q319 q1395 np_X5 rfl OB_5 pd_X5_number (Nat.le_of_ble_eq_true rfl) hd1 (okX5_number l E A (d - 1)  (by omega)  e86 am) rfl ?_
    refine hr_iload_n hC dX7_primary_30 rfl ?_
    obtain ⟨r89, e90, h⟩ := hx_bind h
    refine hs_callV hC 6 [_, _, _, _] _ dX7_primary_31 q1230 q1231 q1232 q320 q1233 np_X6 rfl OB_6 pd_X6_make (Nat.le_of_ble_eq_true rfl) hd1 (okX6_make l E A (d - 1)  (by omega)  e90 am) (hc_rb rfl) rfl (fun am91 ha92 => ?_)
    refine hr_istore_n hC dX7_primary_34 (by decide) ?_
    refine hr_aload_n hC dX7_primary_35 rfl ?_
    refine hr_gO 5 hC F7_0 rfl dX7_primary_36 q565 ?_
    obtain ⟨r93, e94, h⟩ := hx_bind h
    refine hs_callV hC 5 [] _ dX7_primary_39 q1262 q1076 q1077 q319 q1078 np_X5 rfl OB_5 pd_X5_next (Nat.le_of_ble_eq_true rfl) hd1 (okX5_next l E A (d - 1) n (by omega)  e94 am91) (hc_rb rfl) rfl (fun am95 ha96 => ?_)
    refine hr_iload_n hC dX7_primary_42 rfl ?_
    obtain rfl := Option.some.inj h
    exact hr_iret hC dX7_primary_43
/-- HomeCompiler$Reader.expression()I -/
def bd_X7_expression (n : Nat) (k0 : Nat) (rec : Nat → List Int32 → hc_St → Option (Nat × Int32 × hc_St))  (σ : hc_St) : Option (Nat × Int32 × hc_St) := Option.bind (fm_X5_start  σ) fun r1 => Option.bind (rec 1 [] σ) fun r5 => ht r5 <| Option.bind (fm_X7_isSet  r5.2.2) fun r10 => if r10 = 0 then (Option.bind (rec 4 [r5.2.1, ((gI σ 7 5)), r1] r5.2.2) fun r16 => ht r16 <| some (0, r16.2.1, r16.2.2)) else (Option.bind (fm_X7_shallow r5.2.1 r5.2.2) fun r21 => ht r21 <| Option.bind (fm_X5_token  r21.2.2) fun r26 => Option.bind (fm_X6_over 30 r26 r5.2.1 r21.2.2) fun r30 => Option.bind (fm_X6_setPlace r30.1 r1 r30.2) fun r34 => Option.bind (fm_X7_opens n r34) fun r38 => ht r38 <| Option.bind (rec 3 [] r38.2.2) fun r43 => ht r43 <| Option.bind (fm_X6_hang r30.1 r43.2.1 r43.2.2) fun r48 => hl (pI r48 7 2 ((((gI r48 7 2)) - 1))) fun σ52 => some (0, r30.1, σ52))
set_option maxRecDepth 20000 in
set_option maxHeartbeats 4000000 in
theorem okbX7_expression (l : Launch) (E : hc_E) (A : Nat → Prop) (d : Nat) {kk : Nat} (n : Nat) (k0 : Nat) (rec : Nat → List Int32 → hc_St → Option (Nat × Int32 × hc_St)) (hD : kk + 16 ≤ d) (IH : ∀ (w : Nat) (a : List Int32) (σ : hc_St) (r : (Nat × Int32 × hc_St)), rec w a σ = some r → ∀ am, okg_X7_choice l E A (d - 1) am w a σ r)  {σ : hc_St} {r : (Nat × Int32 × hc_St)} (h : bd_X7_expression n k0 rec  σ = some r) (am : Nat → Nat → Nat) : hc_M l hc_V0 yX7_expression (ws_ yX7_expression cX7_expression 5 (some .int)) d E A [.ref (E.2.1 7)] am [2, 3, 4, 6, 12, 22] σ (hc_ot (fun v => some (.int v)) r) r.2.2 := by
  have hd1 : 1 ≤ d := by omega
  have hd8 : 9 ≤ d := by omega
  have hd12 : 12 ≤ d := by omega
  refine hc_enter2 (own := RX7) [(0, .ref (E.2.1 7))] pl_X7 rfl hc_V0_st hc_G0_nd rfl (Nat.le_of_ble_eq_true rfl) (fun X hC hem => ?_)
  have HX := fun z => hc_CX hC z
  unfold bd_X7_expression at h
  refine hr_aload_n hC dX7_expression_0 rfl ?_
  refine hr_gO 5 hC F7_0 rfl dX7_expression_1 q565 ?_
  obtain ⟨r1, e2, h⟩ := hx_bind h
  refine hs_callV0 hC 5 [] _ dX7_expression_4 q1258 q1259 q1260 q319 q1261 np_X5 rfl OB_5 pd_X5_start (Nat.le_of_ble_eq_true rfl) hd1 (okX5_start l E A (d - 1)  (by omega)  e2 am) rfl ?_
  refine hr_istore_n hC dX7_expression_7 (by decide) ?_
  refine hr_aload_n hC dX7_expression_8 rfl ?_
  refine hr_gI hC F7_5 dX7_expression_9 q570 ?_
  refine hr_istore_n hC dX7_expression_12 (by decide) ?_
  refine hr_aload_n hC dX7_expression_13 rfl ?_
  obtain ⟨r5, e6, h⟩ := hx_bind h
  by_cases z9 : r5.1 = 0
  · rw [ht_0 z9] at h
    refine hs_callV hC 7 [] _ dX7_expression_14 q1360 q1362 qs22 q321 q1363 np_X7 rfl OB_7 pd_X7_operand (Nat.le_of_ble_eq_true rfl) hd1 (hc_M0 (r := r5) (IH _ _ _ _ e6 am) z9) (hc_rb rfl) rfl (fun am7 ha8 => ?_)
    refine hr_istore_n hC dX7_expression_17 (by decide) ?_
    refine hr_aload_n hC dX7_expression_18 rfl ?_
    obtain ⟨r10, e11, h⟩ := hx_bind h
    refine hs_callV0 hC 7 [] _ dX7_expression_19 q1400 q1402 qs26 q321 q1403 np_X7 rfl OB_7 pd_X7_isSet (Nat.le_of_ble_eq_true rfl) hd1 (okX7_isSet l E A (d - 1)  (by omega)  e11 am7) rfl ?_
    refine hr_if_eq (x := _) hC 89 dX7_expression_22 (by decide) (fun c15 => ?_) (fun c15 => ?_)
    · rw [if_pos c15] at h
      refine hr_aload_n hC dX7_expression_89 rfl ?_
      refine hr_iload_n hC dX7_expression_90 rfl ?_
      refine hr_iload_n hC dX7_expression_91 rfl ?_
      refine hr_iload_n hC dX7_expression_92 rfl ?_
      obtain ⟨r16, e17, h⟩ := hx_bind h
      by_cases z20 : r16.1 = 0
      · rw [ht_0 z20] at h
        refine hs_callV hC 7 [_, _, _] _ dX7_expression_93 q1413 q1415 qs28 q321 q1416 np_X7 rfl OB_7 pd_X7_choiceBehind (Nat.le_of_ble_eq_true rfl) hd1 (hc_M0 (r := r16) (IH _ _ _ _ e17 am7) z20) (hc_rb rfl) rfl (fun am18 ha19 => ?_)
        obtain rfl := Option.some.inj h
        exact hr_iret hC dX7_expression_96
      · rw [ht_1 z20] at h
        obtain rfl := Option.some.inj h
        exact hs_callVx (HX z20) hem 7 [_, _, _] _ dX7_expression_93 q1413 q1415 qs28 q321 q1416 np_X7 rfl OB_7 pd_X7_choiceBehind (Nat.le_of_ble_eq_true rfl) hd1 (hc_M1 (r := r16) (IH _ _ _ _ e17 am7) z20) (hc_rb rfl) rfl
    · rw [if_neg c15] at h
      refine hr_aload_n hC dX7_expression_25 rfl ?_
      refine hr_iload_n hC dX7_expression_26 rfl ?_
      obtain ⟨r21, e22, h⟩ := hx_bind h
      by_cases z25 : r21.1 = 0
      · rw [ht_0 z25] at h
        refine hs_callV0 hC 7 [_] _ dX7_expression_27 q1404 q1406 qs27 q321 q1407 np_X7 rfl OB_7 pd_X7_shallow (Nat.le_of_ble_eq_true rfl) hd1 (hc_M0 (r := r21) (okX7_shallow l E A (d - 1)  (by omega)  e22 am7) z25) rfl ?_
        refine hr_aload_n hC dX7_expression_30 rfl ?_
        refine hr_gO 6 hC F7_1 rfl dX7_expression_31 q566 ?_
        refine hr_bipush (v := 30) hC dX7_expression_34 rfl ?_
        refine hr_aload_n hC dX7_expression_36 rfl ?_
        refine hr_gO 5 hC F7_0 rfl dX7_expression_37 q565 ?_
        obtain ⟨r26, e27, h⟩ := hx_bind h
        refine hs_callV0 hC 5 [] _ dX7_expression_40 q1246 q1247 q1248 q319 q1249 np_X5 rfl OB_5 pd_X5_token (Nat.le_of_ble_eq_true rfl) hd1 (okX5_token l E A (d - 1)  (by omega)  e27 am7) rfl ?_
        refine hr_iload_n hC dX7_expression_43 rfl ?_
        obtain ⟨r30, e31, h⟩ := hx_bind h
        refine hs_callV hC 6 [_, _, _] _ dX7_expression_44 q1372 q1373 q1374 q320 q1375 np_X6 rfl OB_6 pd_X6_over (Nat.le_of_ble_eq_true rfl) hd1 (okX6_over l E A (d - 1)  (by omega)  e31 am7) (hc_rb rfl) rfl (fun am32 ha33 => ?_)
        refine hr_istore hC dX7_expression_47 (by decide) ?_
        refine hr_aload_n hC dX7_expression_49 rfl ?_
        refine hr_gO 6 hC F7_1 rfl dX7_expression_50 q566 ?_
        refine hr_iload hC dX7_expression_53 rfl ?_
        refine hr_iload_n hC dX7_expression_55 rfl ?_
        obtain ⟨r34, e35, h⟩ := hx_bind h
        refine hs_callV0 hC 6 [_, _] _ dX7_expression_56 q1384 q1385 q1386 q320 q1387 np_X6 rfl OB_6 pd_X6_setPlace (Nat.le_of_ble_eq_true rfl) hd1 (okX6_setPlace l E A (d - 1)  (by omega)  e35 am32) rfl ?_
        refine hr_aload_n hC dX7_expression_59 rfl ?_
        obtain ⟨r38, e39, h⟩ := hx_bind h
        by_cases z42 : r38.1 = 0
        · rw [ht_0 z42] at h
          refine hs_callV hC 7 [] _ dX7_expression_60 q1336 q1338 qs17 q321 q1339 np_X7 rfl OB_7 pd_X7_opens (Nat.le_of_ble_eq_true rfl) hd1 (hc_M0 (r := r38) (okX7_opens l E A (d - 1) n (by omega)  e39 am32) z42) (hc_rb rfl) rfl (fun am40 ha41 => ?_)
          refine hr_aload_n hC dX7_expression_63 rfl ?_
          refine hr_gO 6 hC F7_1 rfl dX7_expression_64 q566 ?_
          refine hr_iload hC dX7_expression_67 rfl ?_
          refine hr_aload_n hC dX7_expression_69 rfl ?_
          obtain ⟨r43, e44, h⟩ := hx_bind h
          by_cases z47 : r43.1 = 0
          · rw [ht_0 z47] at h
            refine hs_callV hC 7 [] _ dX7_expression_70 q1396 q1398 qs25 q321 q1399 np_X7 rfl OB_7 pd_X7_expression (Nat.le_of_ble_eq_true rfl) hd1 (hc_M0 (r := r43) (IH _ _ _ _ e44 am40) z47) (hc_rb rfl) rfl (fun am45 ha46 => ?_)
            obtain ⟨r48, e49, h⟩ := hx_bind h
            refine hs_callV0 hC 6 [_, _] _ dX7_expression_73 q1412 q1378 q1379 q320 q1380 np_X6 rfl OB_6 pd_X6_hang (Nat.le_of_ble_eq_true rfl) hd1 (okX6_hang l E A (d - 1)  (by omega)  e49 am45) rfl ?_
            refine hr_aload_n hC dX7_expression_76 rfl ?_
            refine hr_dup hC dX7_expression_77 rfl ?_
            refine hr_gI hC F7_2 dX7_expression_78 q567 ?_
            refine hr_iconst (v := 1) hC dX7_expression_81 rfl ?_
            refine hr_isub hC dX7_expression_82 ?_
            obtain ⟨σ52, hσ52, h⟩ := hl_ok h
            refine hr_pI hC F7_2 PX7_2 dX7_expression_83 q567 ?_
            rw [← hσ52]
            refine hr_iload hC dX7_expression_86 rfl ?_
            obtain rfl := Option.some.inj h
            exact hr_iret hC dX7_expression_88
          · rw [ht_1 z47] at h
            obtain rfl := Option.some.inj h
            exact hs_callVx (HX z47) hem 7 [] _ dX7_expression_70 q1396 q1398 qs25 q321 q1399 np_X7 rfl OB_7 pd_X7_expression (Nat.le_of_ble_eq_true rfl) hd1 (hc_M1 (r := r43) (IH _ _ _ _ e44 am40) z47) (hc_rb rfl) rfl
        · rw [ht_1 z42] at h
          obtain rfl := Option.some.inj h
          exact hs_callVx (HX z42) hem 7 [] _ dX7_expression_60 q1336 q1338 qs17 q321 q1339 np_X7 rfl OB_7 pd_X7_opens (Nat.le_of_ble_eq_true rfl) hd1 (hc_M1 (r := r38) (okX7_opens l E A (d - 1) n (by omega)  e39 am32) z42) (hc_rb rfl) rfl
      · rw [ht_1 z25] at h
        obtain rfl := Option.some.inj h
        exact hs_callVx (HX z25) hem 7 [_] _ dX7_expression_27 q1404 q1406 qs27 q321 q1407 np_X7 rfl OB_7 pd_X7_shallow (Nat.le_of_ble_eq_true rfl) hd1 (hc_M1 (r := r21) (okX7_shallow l E A (d - 1)  (by omega)  e22 am7) z25) (hc_rb rfl) rfl
  · rw [ht_1 z9] at h
    obtain rfl := Option.some.inj h
    exact hs_callVx (HX z9) hem 7 [] _ dX7_expression_14 q1360 q1362 qs22 q321 q1363 np_X7 rfl OB_7 pd_X7_operand (Nat.le_of_ble_eq_true rfl) hd1 (hc_M1 (r := r5) (IH _ _ _ _ e6 am) z9) (hc_rb rfl) rfl
/-- HomeCompiler$Reader.choiceBehind(III)I -/
def bd_X7_choiceBehind (n : Nat) (k0 : Nat) (rec : Nat → List Int32 → hc_St → Option (Nat × Int32 × hc_St)) (x1 : Int32) (x2 : Int32) (x3 : Int32) (σ : hc_St) : Option (Nat × Int32 × hc_St) := Option.bind (rec 5 [x1, x2] σ) fun r1 => ht r1 <| Option.bind (fm_X7_is 63 r1.2.2) fun r6 => if r6 = 0 then (some (0, r1.2.1, r1.2.2)) else (Option.bind (fm_X7_shallow r1.2.1 r1.2.2) fun r12 => ht r12 <| Option.bind (fm_X6_over 31 0 r1.2.1 r12.2.2) fun r17 => Option.bind (fm_X6_setPlace r17.1 x3 r17.2) fun r21 => Option.bind (fm_X7_opens n r21) fun r25 => ht r25 <| Option.bind (rec 3 [] r25.2.2) fun r30 => ht r30 <| Option.bind (fm_X6_hang r17.1 r30.2.1 r30.2.2) fun r35 => Option.bind (fm_X7_take n 58 r35) fun r39 => ht r39 <| Option.bind (rec 0 [] r39.2.2) fun r44 => ht r44 <| Option.bind (fm_X6_hang r17.1 r44.2.1 r44.2.2) fun r49 => hl (pI r49 7 2 ((((gI r49 7 2)) - 1))) fun σ53 => some (0, r17.1, σ53))
set_option maxRecDepth 20000 in
set_option maxHeartbeats 4000000 in
theorem okbX7_choiceBehind (l : Launch) (E : hc_E) (A : Nat → Prop) (d : Nat) {kk : Nat} (n : Nat) (k0 : Nat) (rec : Nat → List Int32 → hc_St → Option (Nat × Int32 × hc_St)) (hD : kk + 16 ≤ d) (IH : ∀ (w : Nat) (a : List Int32) (σ : hc_St) (r : (Nat × Int32 × hc_St)), rec w a σ = some r → ∀ am, okg_X7_choice l E A (d - 1) am w a σ r) {x1 : Int32} {x2 : Int32} {x3 : Int32} {σ : hc_St} {r : (Nat × Int32 × hc_St)} (h : bd_X7_choiceBehind n k0 rec x1 x2 x3 σ = some r) (am : Nat → Nat → Nat) : hc_M l hc_V0 yX7_choiceBehind (ws_ yX7_choiceBehind cX7_choiceBehind 6 (some .int)) d E A [.ref (E.2.1 7), .int x1, .int x2, .int x3] am [2, 3, 4, 6, 12, 22] σ (hc_ot (fun v => some (.int v)) r) r.2.2 := by
  have hd1 : 1 ≤ d := by omega
  have hd8 : 9 ≤ d := by omega
  have hd12 : 12 ≤ d := by omega
  refine hc_enter2 (own := RX7) [(0, .ref (E.2.1 7)), (1, .int x1), (2, .int x2), (3, .int x3)] pl_X7 rfl hc_V0_st hc_G0_nd rfl (Nat.le_of_ble_eq_true rfl) (fun X hC hem => ?_)
  have HX := fun z => hc_CX hC z
  unfold bd_X7_choiceBehind at h
  refine hr_aload_n hC dX7_choiceBehind_0 rfl ?_
  refine hr_iload_n hC dX7_choiceBehind_1 rfl ?_
  refine hr_iload_n hC dX7_choiceBehind_2 rfl ?_
  obtain ⟨r1, e2, h⟩ := hx_bind h
  by_cases z5 : r1.1 = 0
  · rw [ht_0 z5] at h
    refine hs_callV hC 7 [_, _] _ dX7_choiceBehind_3 q1417 q1419 qs29 q321 q1420 np_X7 rfl OB_7 pd_X7_operation (Nat.le_of_ble_eq_true rfl) hd1 (hc_M0 (r := r1) (IH _ _ _ _ e2 am) z5) (hc_rb rfl) rfl (fun am3 ha4 => ?_)
    refine hr_istore hC dX7_choiceBehind_6 (by decide) ?_
    refine hr_aload_n hC dX7_choiceBehind_8 rfl ?_
    refine hr_bipush (v := 63) hC dX7_choiceBehind_9 rfl ?_
    obtain ⟨r6, e7, h⟩ := hx_bind h
    refine hs_callV0 hC 7 [_] _ dX7_choiceBehind_11 q1242 q1244 qs12 q321 q1245 np_X7 rfl OB_7 pd_X7_is (Nat.le_of_ble_eq_true rfl) hd1 (okX7_is l E A (d - 1)  (by omega)  e7 am3) rfl ?_
    refine hr_if_ne (x := _) hC 20 dX7_choiceBehind_14 (by decide) (fun c11 => ?_) (fun c11 => ?_)
    · rw [if_neg c11] at h
      refine hr_aload_n hC dX7_choiceBehind_20 rfl ?_
      refine hr_iload hC dX7_choiceBehind_21 rfl ?_
      obtain ⟨r12, e13, h⟩ := hx_bind h
      by_cases z16 : r12.1 = 0
      · rw [ht_0 z16] at h
        refine hs_callV0 hC 7 [_] _ dX7_choiceBehind_23 q1404 q1406 qs27 q321 q1407 np_X7 rfl OB_7 pd_X7_shallow (Nat.le_of_ble_eq_true rfl) hd1 (hc_M0 (r := r12) (okX7_shallow l E A (d - 1)  (by omega)  e13 am3) z16) rfl ?_
        refine hr_aload_n hC dX7_choiceBehind_26 rfl ?_
        refine hr_gO 6 hC F7_1 rfl dX7_choiceBehind_27 q566 ?_
        refine hr_bipush (v := 31) hC dX7_choiceBehind_30 rfl ?_
        refine hr_iconst (v := 0) hC dX7_choiceBehind_32 rfl ?_
        refine hr_iload hC dX7_choiceBehind_33 rfl ?_
        obtain ⟨r17, e18, h⟩ := hx_bind h
        refine hs_callV hC 6 [_, _, _] _ dX7_choiceBehind_35 q1372 q1373 q1374 q320 q1375 np_X6 rfl OB_6 pd_X6_over (Nat.le_of_ble_eq_true rfl) hd1 (okX6_over l E A (d - 1)  (by omega)  e18 am3) (hc_rb rfl) rfl (fun am19 ha20 => ?_)
        refine hr_istore hC dX7_choiceBehind_38 (by decide) ?_
        refine hr_aload_n hC dX7_choiceBehind_40 rfl ?_
        refine hr_gO 6 hC F7_1 rfl dX7_choiceBehind_41 q566 ?_
        refine hr_iload hC dX7_choiceBehind_44 rfl ?_
        refine hr_iload_n hC dX7_choiceBehind_46 rfl ?_
        obtain ⟨r21, e22, h⟩ := hx_bind h
        refine hs_callV0 hC 6 [_, _] _ dX7_choiceBehind_47 q1384 q1385 q1386 q320 q1387 np_X6 rfl OB_6 pd_X6_setPlace (Nat.le_of_ble_eq_true rfl) hd1 (okX6_setPlace l E A (d - 1)  (by omega)  e22 am19) rfl ?_
        refine hr_aload_n hC dX7_choiceBehind_50 rfl ?_
        obtain ⟨r25, e26, h⟩ := hx_bind h
        by_cases z29 : r25.1 = 0
        · rw [ht_0 z29] at h
          refine hs_callV hC 7 [] _ dX7_choiceBehind_51 q1336 q1338 qs17 q321 q1339 np_X7 rfl OB_7 pd_X7_opens (Nat.le_of_ble_eq_true rfl) hd1 (hc_M0 (r := r25) (okX7_opens l E A (d - 1) n (by omega)  e26 am19) z29) (hc_rb rfl) rfl (fun am27 ha28 => ?_)
          refine hr_aload_n hC dX7_choiceBehind_54 rfl ?_
          refine hr_gO 6 hC F7_1 rfl dX7_choiceBehind_55 q566 ?_
          refine hr_iload hC dX7_choiceBehind_58 rfl ?_
          refine hr_aload_n hC dX7_choiceBehind_60 rfl ?_
          obtain ⟨r30, e31, h⟩ := hx_bind h
          by_cases z34 : r30.1 = 0
          · rw [ht_0 z34] at h
            refine hs_callV hC 7 [] _ dX7_choiceBehind_61 q1396 q1398 qs25 q321 q1399 np_X7 rfl OB_7 pd_X7_expression (Nat.le_of_ble_eq_true rfl) hd1 (hc_M0 (r := r30) (IH _ _ _ _ e31 am27) z34) (hc_rb rfl) rfl (fun am32 ha33 => ?_)
            obtain ⟨r35, e36, h⟩ := hx_bind h
            refine hs_callV0 hC 6 [_, _] _ dX7_choiceBehind_64 q1412 q1378 q1379 q320 q1380 np_X6 rfl OB_6 pd_X6_hang (Nat.le_of_ble_eq_true rfl) hd1 (okX6_hang l E A (d - 1)  (by omega)  e36 am32) rfl ?_
            refine hr_aload_n hC dX7_choiceBehind_67 rfl ?_
            refine hr_bipush (v := 58) hC dX7_choiceBehind_68 rfl ?_
            obtain ⟨r39, e40, h⟩ := hx_bind h
            by_cases z43 : r39.1 = 0
            · rw [ht_0 z43] at h
              refine hs_callV hC 7 [_] _ dX7_choiceBehind_70 q1434 q1436 qs32 q321 q1437 np_X7 rfl OB_7 pd_X7_take (Nat.le_of_ble_eq_true rfl) hd1 (hc_M0 (r := r39) (okX7_take l E A (d - 1) n (by omega)  e40 am32) z43) (hc_rb rfl) rfl (fun am41 ha42 => ?_)
              refine hr_aload_n hC dX7_choiceBehind_73 rfl ?_
              refine hr_gO 6 hC F7_1 rfl dX7_choiceBehind_74 q566 ?_
              refine hr_iload hC dX7_choiceBehind_77 rfl ?_
              refine hr_aload_n hC dX7_choiceBehind_79 rfl ?_
              obtain ⟨r44, e45, h⟩ := hx_bind h
              by_cases z48 : r44.1 = 0
              · rw [ht_0 z48] at h
                refine hs_callV hC 7 [] _ dX7_choiceBehind_80 q1356 q1358 qs21 q321 q1359 np_X7 rfl OB_7 pd_X7_choice (Nat.le_of_ble_eq_true rfl) hd1 (hc_M0 (r := r44) (IH _ _ _ _ e45 am41) z48) (hc_rb rfl) rfl (fun am46 ha47 => ?_)
                obtain ⟨r49, e50, h⟩ := hx_bind h
                refine hs_callV0 hC 6 [_, _] _ dX7_choiceBehind_83 q1412 q1378 q1379 q320 q1380 np_X6 rfl OB_6 pd_X6_hang (Nat.le_of_ble_eq_true rfl) hd1 (okX6_hang l E A (d - 1)  (by omega)  e50 am46) rfl ?_
                refine hr_aload_n hC dX7_choiceBehind_86 rfl ?_
                refine hr_dup hC dX7_choiceBehind_87 rfl ?_
                refine hr_gI hC F7_2 dX7_choiceBehind_88 q567 ?_
                refine hr_iconst (v := 1) hC dX7_choiceBehind_91 rfl ?_
                refine hr_isub hC dX7_choiceBehind_92 ?_
                obtain ⟨σ53, hσ53, h⟩ := hl_ok h
                refine hr_pI hC F7_2 PX7_2 dX7_choiceBehind_93 q567 ?_
                rw [← hσ53]
                refine hr_iload hC dX7_choiceBehind_96 rfl ?_
                obtain rfl := Option.some.inj h
                exact hr_iret hC dX7_choiceBehind_98
              · rw [ht_1 z48] at h
                obtain rfl := Option.some.inj h
                exact hs_callVx (HX z48) hem 7 [] _ dX7_choiceBehind_80 q1356 q1358 qs21 q321 q1359 np_X7 rfl OB_7 pd_X7_choice (Nat.le_of_ble_eq_true rfl) hd1 (hc_M1 (r := r44) (IH _ _ _ _ e45 am41) z48) (hc_rb rfl) rfl
            · rw [ht_1 z43] at h
              obtain rfl := Option.some.inj h
              exact hs_callVx (HX z43) hem 7 [_] _ dX7_choiceBehind_70 q1434 q1436 qs32 q321 q1437 np_X7 rfl OB_7 pd_X7_take (Nat.le_of_ble_eq_true rfl) hd1 (hc_M1 (r := r39) (okX7_take l E A (d - 1) n (by omega)  e40 am32) z43) (hc_rb rfl) rfl
          · rw [ht_1 z34] at h
            obtain rfl := Option.some.inj h
            exact hs_callVx (HX z34) hem 7 [] _ dX7_choiceBehind_61 q1396 q1398 qs25 q321 q1399 np_X7 rfl OB_7 pd_X7_expression (Nat.le_of_ble_eq_true rfl) hd1 (hc_M1 (r := r30) (IH _ _ _ _ e31 am27) z34) (hc_rb rfl) rfl
        · rw [ht_1 z29] at h
          obtain rfl := Option.some.inj h
          exact hs_callVx (HX z29) hem 7 [] _ dX7_choiceBehind_51 q1336 q1338 qs17 q321 q1339 np_X7 rfl OB_7 pd_X7_opens (Nat.le_of_ble_eq_true rfl) hd1 (hc_M1 (r := r25) (okX7_opens l E A (d - 1) n (by omega)  e26 am19) z29) (hc_rb rfl) rfl
      · rw [ht_1 z16] at h
        obtain rfl := Option.some.inj h
        exact hs_callVx (HX z16) hem 7 [_] _ dX7_choiceBehind_23 q1404 q1406 qs27 q321 q1407 np_X7 rfl OB_7 pd_X7_shallow (Nat.le_of_ble_eq_true rfl) hd1 (hc_M1 (r := r12) (okX7_shallow l E A (d - 1)  (by omega)  e13 am3) z16) (hc_rb rfl) rfl
    · rw [if_pos c11] at h
      refine hr_iload hC dX7_choiceBehind_17 rfl ?_
      obtain rfl := Option.some.inj h
      exact hr_iret hC dX7_choiceBehind_19
  · rw [ht_1 z5] at h
    obtain rfl := Option.some.inj h
    exact hs_callVx (HX z5) hem 7 [_, _] _ dX7_choiceBehind_3 q1417 q1419 qs29 q321 q1420 np_X7 rfl OB_7 pd_X7_operation (Nat.le_of_ble_eq_true rfl) hd1 (hc_M1 (r := r1) (IH _ _ _ _ e2 am) z5) (hc_rb rfl) rfl
def lp_X7_operation_22 (n : Nat) (k0 : Nat) (rec : Nat → List Int32 → hc_St → Option (Nat × Int32 × hc_St)) : Nat → Int32 → Int32 → hc_St → Option (Nat × hc_St × Int32)
  | 0, _, _, _ => none
  | m + 1, y2, y3, σ => if y3 ≤ 0 then (some (0, σ, 0)) else (Option.bind (fm_X7_settle n y2 y3 σ) fun r13 => hk (inb ((gI r13 7 5)) (gL r13 7 3)) <| Option.bind (fm_X7_shallow ((gC r13 7 3 ((gI r13 7 5)))) r13) fun r18 => hv r18 (0) <| Option.bind (fm_X5_token  r18.2.2) fun r23 => Option.bind (fm_X7_opens n r18.2.2) fun r27 => hv r27 (0) <| hl (pI r27.2.2 7 5 ((((gI r27.2.2 7 5)) + 1))) fun σ32 => hk (inb ((gI r27.2.2 7 5)) (gL σ32 7 4)) <| hl (pC σ32 7 4 ((gI r27.2.2 7 5)) r23) fun σ34 => Option.bind (rec 1 [] σ34) fun r35 => hv r35 (0) <| hk (inb ((gI σ34 7 5)) (gL r35.2.2 7 3)) <| hl (pC r35.2.2 7 3 ((gI σ34 7 5)) r35.2.1) fun σ41 => Option.bind (fm_X5_token  σ41) fun r42 => Option.bind (fm_X7_rank r42 σ41) fun r46 => lp_X7_operation_22 n k0 rec m y2 r46 σ41)
/-- HomeCompiler$Reader.operation(II)I -/
def bd_X7_operation (n : Nat) (k0 : Nat) (rec : Nat → List Int32 → hc_St → Option (Nat × Int32 × hc_St)) (x1 : Int32) (x2 : Int32) (σ : hc_St) : Option (Nat × Int32 × hc_St) := hk (inb ((gI σ 7 5)) (gL σ 7 3)) <| hl (pC σ 7 3 ((gI σ 7 5)) x1) fun σ2 => Option.bind (fm_X5_token  σ2) fun r3 => Option.bind (fm_X7_rank r3 σ2) fun r7 => Option.bind (lp_X7_operation_22 n k0 rec n x2 r7 σ2) fun r50 => hu r50 <| Option.bind (fm_X7_settle n x2 0 r50.2.1) fun r55 => hk (inb x2 (gL r55 7 3)) <| some (0, (gC r55 7 3 x2), r55)
set_option maxRecDepth 20000 in
set_option maxHeartbeats 4000000 in
theorem ll_X7_operation_22 {l : Launch} {E : hc_E} {A : Nat → Prop} {am : Nat → Nat → Nat} {d : Nat} {kk : Nat} {X : hc_X} (n : Nat) (k0 : Nat) (rec : Nat → List Int32 → hc_St → Option (Nat × Int32 × hc_St)) (hD : kk + 16 ≤ d) (hem : X.2.2.2.2.2.2.2.2.2.1.exceptionTable.isEmpty = true) (IH : ∀ (w : Nat) (a : List Int32) (σ : hc_St) (r : (Nat × Int32 × hc_St)), rec w a σ = some r → ∀ am, okg_X7_choice l E A (d - 1) am w a σ r) {oc : hc_Oc} {σe : hc_St} (hC : hc_C hc_V0 E cX7_operation 5 RX7 (some .int) d oc σe (l, A, am, [2, 3, 4, 6, 12, 22]) X) : ∀ (m : Nat) (σ : hc_St) (y2 : Int32) (y3 : Int32) (rl : Nat × hc_St × Int32), lp_X7_operation_22 n k0 rec m y2 y3 σ = some rl → (rl.1 = 0 → ∀ am1, hc_At hc_V0 E 5 X 104 [(0, .ref (E.2.1 7)), (2, .int y2)] [] rl.2.1 am1 []) → (rl.1 ≠ 0 → hc_C hc_V0 E cX7_operation 5 RX7 (some .int) d (.inr rl.1) rl.2.1 (l, A, am, [2, 3, 4, 6, 12, 22]) X) → ∀ am1, hc_At hc_V0 E 5 X 22 [(0, .ref (E.2.1 7)), (2, .int y2), (3, .int y3)] [] σ am1 [] := by
  have hd1 : 1 ≤ d := by omega
  have hd8 : 9 ≤ d := by omega
  have hd12 : 12 ≤ d := by omega
  intro m
  induction m with
  | zero =>
    intro σ y2 y3 rl h
    cases h
  | succ m ih =>
    intro σ y2 y3 rl h JX HX am1
    rw [lp_X7_operation_22] at h
    refine hr_iload_n hC dX7_operation_22 rfl ?_
    refine hr_if_le (x := _) hC 104 dX7_operation_23 (by decide) (fun c12 => ?_) (fun c12 => ?_)
    · rw [if_pos c12] at h
      obtain rfl := Option.some.inj h
      exact hr_sub _ rfl (JX rfl am1)
    · rw [if_neg c12] at h
      refine hr_aload_n hC dX7_operation_26 rfl ?_
      refine hr_iload_n hC dX7_operation_27 rfl ?_
      refine hr_iload_n hC dX7_operation_28 rfl ?_
      obtain ⟨r13, e14, h⟩ := hx_bind h
      refine hs_callV hC 7 [_, _] _ dX7_operation_29 q1425 q1427 qs31 q321 q1428 np_X7 rfl OB_7 pd_X7_settle (Nat.le_of_ble_eq_true rfl) hd1 (okX7_settle l E A (d - 1) n (by omega)  e14 am1) (hc_rb rfl) rfl (fun am15 ha16 => ?_)
      refine hr_aload_n hC dX7_operation_32 rfl ?_
      refine hr_aload_n hC dX7_operation_33 rfl ?_
      refine hr_gA hC F7_3 rfl dX7_operation_34 q568 ?_
      refine hr_aload_n hC dX7_operation_37 rfl ?_
      refine hr_gI hC F7_5 dX7_operation_38 q570 ?_
      obtain ⟨c17, h⟩ := hk_ok h
      refine hs_iald hC A7_3 c17 dX7_operation_41 ?_
      obtain ⟨r18, e19, h⟩ := hx_bind h
      by_cases z22 : r18.1 = 0
      · rw [hv_0 z22] at h
        refine hs_callV0 hC 7 [_] _ dX7_operation_42 q1404 q1406 qs27 q321 q1407 np_X7 rfl OB_7 pd_X7_shallow (Nat.le_of_ble_eq_true rfl) hd1 (hc_M0 (r := r18) (okX7_shallow l E A (d - 1)  (by omega)  e19 am15) z22) rfl ?_
        refine hr_aload_n hC dX7_operation_45 rfl ?_
        refine hr_gO 5 hC F7_0 rfl dX7_operation_46 q565 ?_
        obtain ⟨r23, e24, h⟩ := hx_bind h
        refine hs_callV0 hC 5 [] _ dX7_operation_49 q1246 q1247 q1248 q319 q1249 np_X5 rfl OB_5 pd_X5_token (Nat.le_of_ble_eq_true rfl) hd1 (okX5_token l E A (d - 1)  (by omega)  e24 am15) rfl ?_
        refine hr_istore hC dX7_operation_52 (by decide) ?_
        refine hr_aload_n hC dX7_operation_54 rfl ?_
        obtain ⟨r27, e28, h⟩ := hx_bind h
        by_cases z31 : r27.1 = 0
        · rw [hv_0 z31] at h
          refine hs_callV hC 7 [] _ dX7_operation_55 q1336 q1338 qs17 q321 q1339 np_X7 rfl OB_7 pd_X7_opens (Nat.le_of_ble_eq_true rfl) hd1 (hc_M0 (r := r27) (okX7_opens l E A (d - 1) n (by omega)  e28 am15) z31) (hc_rb rfl) rfl (fun am29 ha30 => ?_)
          refine hr_aload_n hC dX7_operation_58 rfl ?_
          refine hr_gA hC F7_4 rfl dX7_operation_59 q569 ?_
          refine hr_aload_n hC dX7_operation_62 rfl ?_
          refine hr_dup hC dX7_operation_63 rfl ?_
          refine hr_gI hC F7_5 dX7_operation_64 q570 ?_
          refine hr_dup_x1 hC dX7_operation_67 rfl rfl ?_
          refine hr_iconst (v := 1) hC dX7_operation_68 rfl ?_
          refine hr_iadd hC dX7_operation_69 ?_
          obtain ⟨σ32, hσ32, h⟩ := hl_ok h
          refine hr_pI hC F7_5 PX7_5 dX7_operation_70 q570 ?_
          rw [← hσ32]
          refine hr_iload hC dX7_operation_73 rfl ?_
          obtain ⟨c33, h⟩ := hk_ok h
          obtain ⟨σ34, hσ34, h⟩ := hl_ok h
          refine hs_iast hC A7_4 c33 dX7_operation_75 ?_
          rw [← hσ34]
          refine hr_aload_n hC dX7_operation_76 rfl ?_
          refine hr_gA hC F7_3 rfl dX7_operation_77 q568 ?_
          refine hr_aload_n hC dX7_operation_80 rfl ?_
          refine hr_gI hC F7_5 dX7_operation_81 q570 ?_
          refine hr_aload_n hC dX7_operation_84 rfl ?_
          obtain ⟨r35, e36, h⟩ := hx_bind h
          by_cases z39 : r35.1 = 0
          · rw [hv_0 z39] at h
            refine hs_callV hC 7 [] _ dX7_operation_85 q1360 q1362 qs22 q321 q1363 np_X7 rfl OB_7 pd_X7_operand (Nat.le_of_ble_eq_true rfl) hd1 (hc_M0 (r := r35) (IH _ _ _ _ e36 am29) z39) (hc_rb rfl) rfl (fun am37 ha38 => ?_)
            rw [show am29 7 3 = am37 7 3 from (ha38 7 3 (by decide)).symm]
            obtain ⟨c40, h⟩ := hk_ok h
            obtain ⟨σ41, hσ41, h⟩ := hl_ok h
            refine hs_iast hC A7_3 c40 dX7_operation_88 ?_
            rw [← hσ41]
            refine hr_aload_n hC dX7_operation_89 rfl ?_
            refine hr_aload_n hC dX7_operation_90 rfl ?_
            refine hr_gO 5 hC F7_0 rfl dX7_operation_91 q565 ?_
            obtain ⟨r42, e43, h⟩ := hx_bind h
            refine hs_callV0 hC 5 [] _ dX7_operation_94 q1246 q1247 q1248 q319 q1249 np_X5 rfl OB_5 pd_X5_token (Nat.le_of_ble_eq_true rfl) hd1 (okX5_token l E A (d - 1)  (by omega)  e43 am37) rfl ?_
            obtain ⟨r46, e47, h⟩ := hx_bind h
            refine hs_callV0 hC 7 [_] _ dX7_operation_97 q1421 q1423 qs30 q321 q1424 np_X7 rfl OB_7 pd_X7_rank (Nat.le_of_ble_eq_true rfl) hd1 (okX7_rank l E A (d - 1)  (by omega)  e47 am37) rfl ?_
            refine hr_istore_n hC dX7_operation_100 (by decide) ?_
            refine hr_goto hC 22 dX7_operation_101 (by decide) ?_
            exact hr_sub _ rfl (ih _ _ _ _ h JX HX am37)
          · rw [hv_1 z39] at h
            obtain rfl := Option.some.inj h
            exact hs_callVx (HX z39) hem 7 [] _ dX7_operation_85 q1360 q1362 qs22 q321 q1363 np_X7 rfl OB_7 pd_X7_operand (Nat.le_of_ble_eq_true rfl) hd1 (hc_M1 (r := r35) (IH _ _ _ _ e36 am29) z39) (hc_rb rfl) rfl
        · rw [hv_1 z31] at h
          obtain rfl := Option.some.inj h
          exact hs_callVx (HX z31) hem 7 [] _ dX7_operation_55 q1336 q1338 qs17 q321 q1339 np_X7 rfl OB_7 pd_X7_opens (Nat.le_of_ble_eq_true rfl) hd1 (hc_M1 (r := r27) (okX7_opens l E A (d - 1) n (by omega)  e28 am15) z31) (hc_rb rfl) rfl
      · rw [hv_1 z22] at h
        obtain rfl := Option.some.inj h
        exact hs_callVx (HX z22) hem 7 [_] _ dX7_operation_42 q1404 q1406 qs27 q321 q1407 np_X7 rfl OB_7 pd_X7_shallow (Nat.le_of_ble_eq_true rfl) hd1 (hc_M1 (r := r18) (okX7_shallow l E A (d - 1)  (by omega)  e19 am15) z22) (hc_rb rfl) rfl
set_option maxRecDepth 20000 in
set_option maxHeartbeats 4000000 in
theorem okbX7_operation (l : Launch) (E : hc_E) (A : Nat → Prop) (d : Nat) {kk : Nat} (n : Nat) (k0 : Nat) (rec : Nat → List Int32 → hc_St → Option (Nat × Int32 × hc_St)) (hD : kk + 16 ≤ d) (IH : ∀ (w : Nat) (a : List Int32) (σ : hc_St) (r : (Nat × Int32 × hc_St)), rec w a σ = some r → ∀ am, okg_X7_choice l E A (d - 1) am w a σ r) {x1 : Int32} {x2 : Int32} {σ : hc_St} {r : (Nat × Int32 × hc_St)} (h : bd_X7_operation n k0 rec x1 x2 σ = some r) (am : Nat → Nat → Nat) : hc_M l hc_V0 yX7_operation (ws_ yX7_operation cX7_operation 5 (some .int)) d E A [.ref (E.2.1 7), .int x1, .int x2] am [2, 3, 4, 6, 12, 22] σ (hc_ot (fun v => some (.int v)) r) r.2.2 := by
  have hd1 : 1 ≤ d := by omega
  have hd8 : 9 ≤ d := by omega
  have hd12 : 12 ≤ d := by omega
  refine hc_enter2 (own := RX7) [(0, .ref (E.2.1 7)), (1, .int x1), (2, .int x2)] pl_X7 rfl hc_V0_st hc_G0_nd rfl (Nat.le_of_ble_eq_true rfl) (fun X hC hem => ?_)
  have HX := fun z => hc_CX hC z
  unfold bd_X7_operation at h
  refine hr_aload_n hC dX7_operation_0 rfl ?_
  refine hr_gA hC F7_3 rfl dX7_operation_1 q568 ?_
  refine hr_aload_n hC dX7_operation_4 rfl ?_
  refine hr_gI hC F7_5 dX7_operation_5 q570 ?_
  refine hr_iload_n hC dX7_operation_8 rfl ?_
  obtain ⟨c1, h⟩ := hk_ok h
  obtain ⟨σ2, hσ2, h⟩ := hl_ok h
  refine hs_iast hC A7_3 c1 dX7_operation_9 ?_
  rw [← hσ2]
  refine hr_aload_n hC dX7_operation_10 rfl ?_
  refine hr_aload_n hC dX7_operation_11 rfl ?_
  refine hr_gO 5 hC F7_0 rfl dX7_operation_12 q565 ?_
  obtain ⟨r3, e4, h⟩ := hx_bind h
  refine hs_callV0 hC 5 [] _ dX7_operation_15 q1246 q1247 q1248 q319 q1249 np_X5 rfl OB_5 pd_X5_token (Nat.le_of_ble_eq_true rfl) hd1 (okX5_token l E A (d - 1)  (by omega)  e4 am) rfl ?_
  obtain ⟨r7, e8, h⟩ := hx_bind h
  refine hs_callV0 hC 7 [_] _ dX7_operation_18 q1421 q1423 qs30 q321 q1424 np_X7 rfl OB_7 pd_X7_rank (Nat.le_of_ble_eq_true rfl) hd1 (okX7_rank l E A (d - 1)  (by omega)  e8 am) rfl ?_
  refine hr_istore_n hC dX7_operation_21 (by decide) ?_
  obtain ⟨r50, e51, h⟩ := hx_bind h
  refine hr_sub _ rfl (ll_X7_operation_22 n k0 rec hD hem IH hC n _ _ _ _ e51 (fun z53 am54 => ?_) (fun z53 => ?_) am)
  · rw [hu_0 z53] at h
    refine hr_aload_n hC dX7_operation_104 rfl ?_
    refine hr_iload_n hC dX7_operation_105 rfl ?_
    refine hr_iconst (v := 0) hC dX7_operation_106 rfl ?_
    obtain ⟨r55, e56, h⟩ := hx_bind h
    refine hs_callV hC 7 [_, _] _ dX7_operation_107 q1425 q1427 qs31 q321 q1428 np_X7 rfl OB_7 pd_X7_settle (Nat.le_of_ble_eq_true rfl) hd1 (okX7_settle l E A (d - 1) n (by omega)  e56 am54) (hc_rb rfl) rfl (fun am57 ha58 => ?_)
    refine hr_aload_n hC dX7_operation_110 rfl ?_
    refine hr_gA hC F7_3 rfl dX7_operation_111 q568 ?_
    refine hr_iload_n hC dX7_operation_114 rfl ?_
    obtain ⟨c59, h⟩ := hk_ok h
    refine hs_iald hC A7_3 c59 dX7_operation_115 ?_
    obtain rfl := Option.some.inj h
    exact hr_iret hC dX7_operation_116
  · rw [hu_1 z53] at h
    obtain rfl := Option.some.inj h
    exact HX z53
def lp_X7_call_38 (n : Nat) (k0 : Nat) (rec : Nat → List Int32 → hc_St → Option (Nat × Int32 × hc_St)) : Nat → Int32 → hc_St → Option (Nat × hc_St × Int32)
  | 0, _, _ => none
  | m + 1, y3, σ => Option.bind (fm_X7_takes n 44 σ) fun r29 => if r29.1 = 0 then (some (0, r29.2, 0)) else (Option.bind (rec 3 [] r29.2) fun r35 => hv r35 (0) <| Option.bind (fm_X6_hang y3 r35.2.1 r35.2.2) fun r40 => lp_X7_call_38 n k0 rec m y3 r40)
/-- HomeCompiler$Reader.call(II)I -/
def bd_X7_call (n : Nat) (k0 : Nat) (rec : Nat → List Int32 → hc_St → Option (Nat × Int32 × hc_St)) (x1 : Int32) (x2 : Int32) (σ : hc_St) : Option (Nat × Int32 × hc_St) := Option.bind (fm_X6_make 39 x2 x1 x2 σ) fun r1 => Option.bind (fm_X7_opens n r1.2) fun r5 => ht r5 <| Option.bind (fm_X7_is 41 r5.2.2) fun r10 => Option.bind (α := Nat × hc_St × Int32) (if r10 = 0 then (Option.bind (rec 3 [] r5.2.2) fun r20 => hv r20 (0) <| Option.bind (fm_X6_hang r1.1 r20.2.1 r20.2.2) fun r25 => Option.bind (lp_X7_call_38 n k0 rec n r1.1 r25) fun r44 => hw r44 (0) <| some (0, r44.2.1, (0 : Int32))) else (some (0, r5.2.2, (0 : Int32)))) fun r16 => hu r16 <| Option.bind (fm_X7_closes n 41 r16.2.1) fun r50 => ht r50 <| some (0, r1.1, r50.2.2)
set_option maxRecDepth 20000 in
set_option maxHeartbeats 4000000 in
theorem ll_X7_call_38 {l : Launch} {E : hc_E} {A : Nat → Prop} {am : Nat → Nat → Nat} {d : Nat} {kk : Nat} {X : hc_X} (n : Nat) (k0 : Nat) (rec : Nat → List Int32 → hc_St → Option (Nat × Int32 × hc_St)) (hD : kk + 16 ≤ d) (hem : X.2.2.2.2.2.2.2.2.2.1.exceptionTable.isEmpty = true) (IH : ∀ (w : Nat) (a : List Int32) (σ : hc_St) (r : (Nat × Int32 × hc_St)), rec w a σ = some r → ∀ am, okg_X7_choice l E A (d - 1) am w a σ r) {oc : hc_Oc} {σe : hc_St} (hC : hc_C hc_V0 E cX7_call 4 RX7 (some .int) d oc σe (l, A, am, [2, 3, 4, 6, 12, 22]) X) : ∀ (m : Nat) (σ : hc_St) (y3 : Int32) (rl : Nat × hc_St × Int32), lp_X7_call_38 n k0 rec m y3 σ = some rl → (rl.1 = 0 → ∀ am1, hc_At hc_V0 E 4 X 62 [(0, .ref (E.2.1 7)), (3, .int y3)] [] rl.2.1 am1 []) → (rl.1 ≠ 0 → hc_C hc_V0 E cX7_call 4 RX7 (some .int) d (.inr rl.1) rl.2.1 (l, A, am, [2, 3, 4, 6, 12, 22]) X) → ∀ am1, hc_At hc_V0 E 4 X 38 [(0, .ref (E.2.1 7)), (3, .int y3)] [] σ am1 [] := by
  have hd1 : 1 ≤ d := by omega
  have hd8 : 9 ≤ d := by omega
  have hd12 : 12 ≤ d := by omega
  intro m
  induction m with
  | zero =>
    intro σ y3 rl h
    cases h
  | succ m ih =>
    intro σ y3 rl h JX HX am1
    rw [lp_X7_call_38] at h
    refine hr_aload_n hC dX7_call_38 rfl ?_
    refine hr_bipush (v := 44) hC dX7_call_39 rfl ?_
    obtain ⟨r29, e30, h⟩ := hx_bind h
    refine hs_callV hC 7 [_] _ dX7_call_41 q1348 q1350 qs19 q321 q1351 np_X7 rfl OB_7 pd_X7_takes (Nat.le_of_ble_eq_true rfl) hd1 (okX7_takes l E A (d - 1) n (by omega)  e30 am1) (hc_rb rfl) rfl (fun am31 ha32 => ?_)
    refine hr_if_eq (x := _) hC 62 dX7_call_44 (by decide) (fun c34 => ?_) (fun c34 => ?_)
    · rw [if_pos c34] at h
      obtain rfl := Option.some.inj h
      exact hr_sub _ rfl (JX rfl am31)
    · rw [if_neg c34] at h
      refine hr_aload_n hC dX7_call_47 rfl ?_
      refine hr_gO 6 hC F7_1 rfl dX7_call_48 q566 ?_
      refine hr_iload_n hC dX7_call_51 rfl ?_
      refine hr_aload_n hC dX7_call_52 rfl ?_
      obtain ⟨r35, e36, h⟩ := hx_bind h
      by_cases z39 : r35.1 = 0
      · rw [hv_0 z39] at h
        refine hs_callV hC 7 [] _ dX7_call_53 q1396 q1398 qs25 q321 q1399 np_X7 rfl OB_7 pd_X7_expression (Nat.le_of_ble_eq_true rfl) hd1 (hc_M0 (r := r35) (IH _ _ _ _ e36 am31) z39) (hc_rb rfl) rfl (fun am37 ha38 => ?_)
        obtain ⟨r40, e41, h⟩ := hx_bind h
        refine hs_callV0 hC 6 [_, _] _ dX7_call_56 q1412 q1378 q1379 q320 q1380 np_X6 rfl OB_6 pd_X6_hang (Nat.le_of_ble_eq_true rfl) hd1 (okX6_hang l E A (d - 1)  (by omega)  e41 am37) rfl ?_
        refine hr_goto hC 38 dX7_call_59 (by decide) ?_
        exact hr_sub _ rfl (ih _ _ _ h JX HX am37)
      · rw [hv_1 z39] at h
        obtain rfl := Option.some.inj h
        exact hs_callVx (HX z39) hem 7 [] _ dX7_call_53 q1396 q1398 qs25 q321 q1399 np_X7 rfl OB_7 pd_X7_expression (Nat.le_of_ble_eq_true rfl) hd1 (hc_M1 (r := r35) (IH _ _ _ _ e36 am31) z39) (hc_rb rfl) rfl
set_option maxRecDepth 20000 in
set_option maxHeartbeats 4000000 in
theorem okbX7_call (l : Launch) (E : hc_E) (A : Nat → Prop) (d : Nat) {kk : Nat} (n : Nat) (k0 : Nat) (rec : Nat → List Int32 → hc_St → Option (Nat × Int32 × hc_St)) (hD : kk + 16 ≤ d) (IH : ∀ (w : Nat) (a : List Int32) (σ : hc_St) (r : (Nat × Int32 × hc_St)), rec w a σ = some r → ∀ am, okg_X7_choice l E A (d - 1) am w a σ r) {x1 : Int32} {x2 : Int32} {σ : hc_St} {r : (Nat × Int32 × hc_St)} (h : bd_X7_call n k0 rec x1 x2 σ = some r) (am : Nat → Nat → Nat) : hc_M l hc_V0 yX7_call (ws_ yX7_call cX7_call 4 (some .int)) d E A [.ref (E.2.1 7), .int x1, .int x2] am [2, 3, 4, 6, 12, 22] σ (hc_ot (fun v => some (.int v)) r) r.2.2 := by
  have hd1 : 1 ≤ d := by omega
  have hd8 : 9 ≤ d := by omega
  have hd12 : 12 ≤ d := by omega
  refine hc_enter2 (own := RX7) [(0, .ref (E.2.1 7)), (1, .int x1), (2, .int x2)] pl_X7 rfl hc_V0_st hc_G0_nd rfl (Nat.le_of_ble_eq_true rfl) (fun X hC hem => ?_)
  have HX := fun z => hc_CX hC z
  unfold bd_X7_call at h
  refine hr_aload_n hC dX7_call_0 rfl ?_
  refine hr_gO 6 hC F7_1 rfl dX7_call_1 q566 ?_
  refine hr_bipush (v := 39) hC dX7_call_4 rfl ?_
  refine hr_iload_n hC dX7_call_6 rfl ?_
  refine hr_iload_n hC dX7_call_7 rfl ?_
  refine hr_iload_n hC dX7_call_8 rfl ?_
  obtain ⟨r1, e2, h⟩ := hx_bind h
  refine hs_callV hC 6 [_, _, _, _] _ dX7_call_9 q1230 q1231 q1232 q320 q1233 np_X6 rfl OB_6 pd_X6_make (Nat.le_of_ble_eq_true rfl) hd1 (okX6_make l E A (d - 1)  (by omega)  e2 am) (hc_rb rfl) rfl (fun am3 ha4 => ?_)
  refine hr_istore_n hC dX7_call_12 (by decide) ?_
  refine hr_aload_n hC dX7_call_13 rfl ?_
  obtain ⟨r5, e6, h⟩ := hx_bind h
  by_cases z9 : r5.1 = 0
  · rw [ht_0 z9] at h
    refine hs_callV hC 7 [] _ dX7_call_14 q1336 q1338 qs17 q321 q1339 np_X7 rfl OB_7 pd_X7_opens (Nat.le_of_ble_eq_true rfl) hd1 (hc_M0 (r := r5) (okX7_opens l E A (d - 1) n (by omega)  e6 am3) z9) (hc_rb rfl) rfl (fun am7 ha8 => ?_)
    refine hr_aload_n hC dX7_call_17 rfl ?_
    refine hr_bipush (v := 41) hC dX7_call_18 rfl ?_
    obtain ⟨r10, e11, h⟩ := hx_bind h
    refine hs_callV0 hC 7 [_] _ dX7_call_20 q1242 q1244 qs12 q321 q1245 np_X7 rfl OB_7 pd_X7_is (Nat.le_of_ble_eq_true rfl) hd1 (okX7_is l E A (d - 1)  (by omega)  e11 am7) rfl ?_
    obtain ⟨r16, e17, h⟩ := hx_bind h
    have J18 : r16.1 = 0 → ∀ am49, hc_At hc_V0 E 4 X 62 [(0, .ref (E.2.1 7)), (3, .int r1.1)] [] r16.2.1 am49 [] := by
      intro z19 am49
      rw [hu_0 z19] at h
      refine hr_aload_n hC dX7_call_62 rfl ?_
      refine hr_bipush (v := 41) hC dX7_call_63 rfl ?_
      obtain ⟨r50, e51, h⟩ := hx_bind h
      by_cases z54 : r50.1 = 0
      · rw [ht_0 z54] at h
        refine hs_callV hC 7 [_] _ dX7_call_65 q1438 q1440 qs33 q321 q1441 np_X7 rfl OB_7 pd_X7_closes (Nat.le_of_ble_eq_true rfl) hd1 (hc_M0 (r := r50) (okX7_closes l E A (d - 1) n (by omega)  e51 am49) z54) (hc_rb rfl) rfl (fun am52 ha53 => ?_)
        refine hr_iload_n hC dX7_call_68 rfl ?_
        obtain rfl := Option.some.inj h
        exact hr_iret hC dX7_call_69
      · rw [ht_1 z54] at h
        obtain rfl := Option.some.inj h
        exact hs_callVx (HX z54) hem 7 [_] _ dX7_call_65 q1438 q1440 qs33 q321 q1441 np_X7 rfl OB_7 pd_X7_closes (Nat.le_of_ble_eq_true rfl) hd1 (hc_M1 (r := r50) (okX7_closes l E A (d - 1) n (by omega)  e51 am49) z54) (hc_rb rfl) rfl
    have HX : r16.1 ≠ 0 → hc_C hc_V0 E cX7_call 4 RX7 (some .int) d (.inr r16.1) r16.2.1 (l, A, am, [2, 3, 4, 6, 12, 22]) X := by
      intro z19
      rw [hu_1 z19] at h
      obtain rfl := Option.some.inj h
      exact HX z19
    clear h
    have h := e17
    refine hr_if_ne (x := _) hC 62 dX7_call_23 (by decide) (fun c15 => ?_) (fun c15 => ?_)
    · rw [if_neg c15] at h
      obtain rfl := Option.some.inj h
      exact hr_sub _ rfl (J18 rfl am7)
    · rw [if_pos c15] at h
      refine hr_aload_n hC dX7_call_26 rfl ?_
      refine hr_gO 6 hC F7_1 rfl dX7_call_27 q566 ?_
      refine hr_iload_n hC dX7_call_30 rfl ?_
      refine hr_aload_n hC dX7_call_31 rfl ?_
      obtain ⟨r20, e21, h⟩ := hx_bind h
      by_cases z24 : r20.1 = 0
      · rw [hv_0 z24] at h
        refine hs_callV hC 7 [] _ dX7_call_32 q1396 q1398 qs25 q321 q1399 np_X7 rfl OB_7 pd_X7_expression (Nat.le_of_ble_eq_true rfl) hd1 (hc_M0 (r := r20) (IH _ _ _ _ e21 am7) z24) (hc_rb rfl) rfl (fun am22 ha23 => ?_)
        obtain ⟨r25, e26, h⟩ := hx_bind h
        refine hs_callV0 hC 6 [_, _] _ dX7_call_35 q1412 q1378 q1379 q320 q1380 np_X6 rfl OB_6 pd_X6_hang (Nat.le_of_ble_eq_true rfl) hd1 (okX6_hang l E A (d - 1)  (by omega)  e26 am22) rfl ?_
        obtain ⟨r44, e45, h⟩ := hx_bind h
        refine hr_sub _ rfl (ll_X7_call_38 n k0 rec hD hem IH hC n _ _ _ e45 (fun z47 am48 => ?_) (fun z47 => ?_) am22)
        · rw [hw_0 z47] at h
          obtain rfl := Option.some.inj h
          exact hr_sub _ rfl (J18 rfl am48)
        · rw [hw_1 z47] at h
          obtain rfl := Option.some.inj h
          exact HX z47
      · rw [hv_1 z24] at h
        obtain rfl := Option.some.inj h
        exact hs_callVx (HX z24) hem 7 [] _ dX7_call_32 q1396 q1398 qs25 q321 q1399 np_X7 rfl OB_7 pd_X7_expression (Nat.le_of_ble_eq_true rfl) hd1 (hc_M1 (r := r20) (IH _ _ _ _ e21 am7) z24) (hc_rb rfl) rfl
  · rw [ht_1 z9] at h
    obtain rfl := Option.some.inj h
    exact hs_callVx (HX z9) hem 7 [] _ dX7_call_14 q1336 q1338 qs17 q321 q1339 np_X7 rfl OB_7 pd_X7_opens (Nat.le_of_ble_eq_true rfl) hd1 (hc_M1 (r := r5) (okX7_opens l E A (d - 1) n (by omega)  e6 am3) z9) (hc_rb rfl) rfl
def rc_X7_choice (n : Nat) (k0 : Nat) : Nat → Nat → List Int32 → hc_St → Option (Nat × Int32 × hc_St)
  | 0, _, _, _ => none
  | k + 1, w, a, σ => match w with
    | 0 => bd_X7_choice n k0 (rc_X7_choice n k0 k)  σ
    | 1 => bd_X7_operand n k0 (rc_X7_choice n k0 k)  σ
    | 2 => bd_X7_primary n k0 (rc_X7_choice n k0 k)  σ
    | 3 => bd_X7_expression n k0 (rc_X7_choice n k0 k)  σ
    | 4 => bd_X7_choiceBehind n k0 (rc_X7_choice n k0 k) (a.getD 0 0) (a.getD 1 0) (a.getD 2 0) σ
    | 5 => bd_X7_operation n k0 (rc_X7_choice n k0 k) (a.getD 0 0) (a.getD 1 0) σ
    | 6 => bd_X7_call n k0 (rc_X7_choice n k0 k) (a.getD 0 0) (a.getD 1 0) σ
    | _ => none
theorem okr_X7_choice (l : Launch) (E : hc_E) (A : Nat → Prop) (n : Nat) (k0 : Nat) : ∀ (k d : Nat), k + 16 ≤ d → ∀ (w : Nat) (a : List Int32) (σ : hc_St) (r : (Nat × Int32 × hc_St)), rc_X7_choice n k0 k w a σ = some r → ∀ am, okg_X7_choice l E A d am w a σ r
  | 0, d, _, w, a, σ, r, h, am => by cases h
  | k + 1, d, hd, w, a, σ, r, h, am => by
    have IH := okr_X7_choice l E A n k0 k (d - 1) (by omega)
    match w, h with
    | 0, h => exact okbX7_choice l E A d (kk := k) n k0 (rc_X7_choice n k0 k) (by omega) IH h am
    | 1, h => exact okbX7_operand l E A d (kk := k) n k0 (rc_X7_choice n k0 k) (by omega) IH h am
    | 2, h => exact okbX7_primary l E A d (kk := k) n k0 (rc_X7_choice n k0 k) (by omega) IH h am
    | 3, h => exact okbX7_expression l E A d (kk := k) n k0 (rc_X7_choice n k0 k) (by omega) IH h am
    | 4, h => exact okbX7_choiceBehind l E A d (kk := k) n k0 (rc_X7_choice n k0 k) (by omega) IH h am
    | 5, h => exact okbX7_operation l E A d (kk := k) n k0 (rc_X7_choice n k0 k) (by omega) IH h am
    | 6, h => exact okbX7_call l E A d (kk := k) n k0 (rc_X7_choice n k0 k) (by omega) IH h am
    | w + 7, h => trivial
def fm_X7_choice (n : Nat) (k0 : Nat)  (σ : hc_St) : Option (Nat × Int32 × hc_St) := rc_X7_choice n k0 k0 0 [] σ
theorem okX7_choice (l : Launch) (E : hc_E) (A : Nat → Prop) (d : Nat) (n : Nat) (k0 : Nat) (hD : k0 + 16 ≤ d)   {σ : hc_St} {r : (Nat × Int32 × hc_St)} (h : fm_X7_choice n k0  σ = some r) (am : Nat → Nat → Nat) : hc_M l hc_V0 yX7_choice (ws_ yX7_choice cX7_choice 3 (some .int)) d E A [.ref (E.2.1 7)] am [2, 3, 4, 6, 12, 22] σ (hc_ot (fun v => some (.int v)) r) r.2.2 := okr_X7_choice l E A n k0 k0 d hD 0 _ _ _ h am
def fm_X7_operand (n : Nat) (k0 : Nat)  (σ : hc_St) : Option (Nat × Int32 × hc_St) := rc_X7_choice n k0 k0 1 [] σ
theorem okX7_operand (l : Launch) (E : hc_E) (A : Nat → Prop) (d : Nat) (n : Nat) (k0 : Nat) (hD : k0 + 16 ≤ d)   {σ : hc_St} {r : (Nat × Int32 × hc_St)} (h : fm_X7_operand n k0  σ = some r) (am : Nat → Nat → Nat) : hc_M l hc_V0 yX7_operand (ws_ yX7_operand cX7_operand 8 (some .int)) d E A [.ref (E.2.1 7)] am [2, 3, 4, 6, 12, 22] σ (hc_ot (fun v => some (.int v)) r) r.2.2 := okr_X7_choice l E A n k0 k0 d hD 1 _ _ _ h am
def fm_X7_primary (n : Nat) (k0 : Nat)  (σ : hc_St) : Option (Nat × Int32 × hc_St) := rc_X7_choice n k0 k0 2 [] σ
theorem okX7_primary (l : Launch) (E : hc_E) (A : Nat → Prop) (d : Nat) (n : Nat) (k0 : Nat) (hD : k0 + 16 ≤ d)   {σ : hc_St} {r : (Nat × Int32 × hc_St)} (h : fm_X7_primary n k0  σ = some r) (am : Nat → Nat → Nat) : hc_M l hc_V0 yX7_primary (ws_ yX7_primary cX7_primary 4 (some .int)) d E A [.ref (E.2.1 7)] am [2, 3, 4, 6, 12, 22] σ (hc_ot (fun v => some (.int v)) r) r.2.2 := okr_X7_choice l E A n k0 k0 d hD 2 _ _ _ h am
def fm_X7_expression (n : Nat) (k0 : Nat)  (σ : hc_St) : Option (Nat × Int32 × hc_St) := rc_X7_choice n k0 k0 3 [] σ
theorem okX7_expression (l : Launch) (E : hc_E) (A : Nat → Prop) (d : Nat) (n : Nat) (k0 : Nat) (hD : k0 + 16 ≤ d)   {σ : hc_St} {r : (Nat × Int32 × hc_St)} (h : fm_X7_expression n k0  σ = some r) (am : Nat → Nat → Nat) : hc_M l hc_V0 yX7_expression (ws_ yX7_expression cX7_expression 5 (some .int)) d E A [.ref (E.2.1 7)] am [2, 3, 4, 6, 12, 22] σ (hc_ot (fun v => some (.int v)) r) r.2.2 := okr_X7_choice l E A n k0 k0 d hD 3 _ _ _ h am
def fm_X7_choiceBehind (n : Nat) (k0 : Nat) (x1 : Int32) (x2 : Int32) (x3 : Int32) (σ : hc_St) : Option (Nat × Int32 × hc_St) := rc_X7_choice n k0 k0 4 [x1, x2, x3] σ
theorem okX7_choiceBehind (l : Launch) (E : hc_E) (A : Nat → Prop) (d : Nat) (n : Nat) (k0 : Nat) (hD : k0 + 16 ≤ d)  {x1 : Int32} {x2 : Int32} {x3 : Int32} {σ : hc_St} {r : (Nat × Int32 × hc_St)} (h : fm_X7_choiceBehind n k0 x1 x2 x3 σ = some r) (am : Nat → Nat → Nat) : hc_M l hc_V0 yX7_choiceBehind (ws_ yX7_choiceBehind cX7_choiceBehind 6 (some .int)) d E A [.ref (E.2.1 7), .int x1, .int x2, .int x3] am [2, 3, 4, 6, 12, 22] σ (hc_ot (fun v => some (.int v)) r) r.2.2 := okr_X7_choice l E A n k0 k0 d hD 4 _ _ _ h am
def fm_X7_operation (n : Nat) (k0 : Nat) (x1 : Int32) (x2 : Int32) (σ : hc_St) : Option (Nat × Int32 × hc_St) := rc_X7_choice n k0 k0 5 [x1, x2] σ
theorem okX7_operation (l : Launch) (E : hc_E) (A : Nat → Prop) (d : Nat) (n : Nat) (k0 : Nat) (hD : k0 + 16 ≤ d)  {x1 : Int32} {x2 : Int32} {σ : hc_St} {r : (Nat × Int32 × hc_St)} (h : fm_X7_operation n k0 x1 x2 σ = some r) (am : Nat → Nat → Nat) : hc_M l hc_V0 yX7_operation (ws_ yX7_operation cX7_operation 5 (some .int)) d E A [.ref (E.2.1 7), .int x1, .int x2] am [2, 3, 4, 6, 12, 22] σ (hc_ot (fun v => some (.int v)) r) r.2.2 := okr_X7_choice l E A n k0 k0 d hD 5 _ _ _ h am
def fm_X7_call (n : Nat) (k0 : Nat) (x1 : Int32) (x2 : Int32) (σ : hc_St) : Option (Nat × Int32 × hc_St) := rc_X7_choice n k0 k0 6 [x1, x2] σ
theorem okX7_call (l : Launch) (E : hc_E) (A : Nat → Prop) (d : Nat) (n : Nat) (k0 : Nat) (hD : k0 + 16 ≤ d)  {x1 : Int32} {x2 : Int32} {σ : hc_St} {r : (Nat × Int32 × hc_St)} (h : fm_X7_call n k0 x1 x2 σ = some r) (am : Nat → Nat → Nat) : hc_M l hc_V0 yX7_call (ws_ yX7_call cX7_call 4 (some .int)) d E A [.ref (E.2.1 7), .int x1, .int x2] am [2, 3, 4, 6, 12, 22] σ (hc_ot (fun v => some (.int v)) r) r.2.2 := okr_X7_choice l E A n k0 k0 d hD 6 _ _ _ h am
/-- HomeCompiler$Reader.constant()I -/
def fm_X7_constant (n : Nat) (k0 : Nat)  (σ : hc_St) : Option (Nat × Int32 × hc_St) := Option.bind (fm_X5_start  σ) fun r1 => Option.bind (fm_X7_choice n k0 σ) fun r5 => ht r5 <| Option.bind (fm_X6_over 23 0 r5.2.1 r5.2.2) fun r10 => Option.bind (fm_X6_setPlace r10.1 r1 r10.2) fun r14 => some (0, r10.1, r14)
set_option maxRecDepth 20000 in
set_option maxHeartbeats 4000000 in
theorem okX7_constant (l : Launch) (E : hc_E) (A : Nat → Prop) (d : Nat) (n : Nat) (k0 : Nat) (hD : 1 * k0 + 17 ≤ d)  {σ : hc_St} {r : (Nat × Int32 × hc_St)} (h : fm_X7_constant n k0  σ = some r) (am : Nat → Nat → Nat) : hc_M l hc_V0 yX7_constant (ws_ yX7_constant cX7_constant 3 (some .int)) d E A [.ref (E.2.1 7)] am [2, 3, 4, 6, 12, 22] σ (hc_ot (fun v => some (.int v)) r) r.2.2 := by
  have hd1 : 1 ≤ d := by omega
  have hd8 : 9 ≤ d := by omega
  have hd12 : 12 ≤ d := by omega
  refine hc_enter2 (own := RX7) [(0, .ref (E.2.1 7))] pl_X7 rfl hc_V0_st hc_G0_nd rfl (Nat.le_of_ble_eq_true rfl) (fun X hC hem => ?_)
  have HX := fun z => hc_CX hC z
  unfold fm_X7_constant at h
  refine hr_aload_n hC dX7_constant_0 rfl ?_
  refine hr_gO 5 hC F7_0 rfl dX7_constant_1 q565 ?_
  obtain ⟨r1, e2, h⟩ := hx_bind h
  refine hs_callV0 hC 5 [] _ dX7_constant_4 q1258 q1259 q1260 q319 q1261 np_X5 rfl OB_5 pd_X5_start (Nat.le_of_ble_eq_true rfl) hd1 (okX5_start l E A (d - 1)  (by omega)  e2 am) rfl ?_
  refine hr_istore_n hC dX7_constant_7 (by decide) ?_
  refine hr_aload_n hC dX7_constant_8 rfl ?_
  refine hr_gO 6 hC F7_1 rfl dX7_constant_9 q566 ?_
  refine hr_bipush (v := 23) hC dX7_constant_12 rfl ?_
  refine hr_iconst (v := 0) hC dX7_constant_14 rfl ?_
  refine hr_aload_n hC dX7_constant_15 rfl ?_
  obtain ⟨r5, e6, h⟩ := hx_bind h
  by_cases z9 : r5.1 = 0
  · rw [ht_0 z9] at h
    refine hs_callV hC 7 [] _ dX7_constant_16 q1356 q1358 qs21 q321 q1359 np_X7 rfl OB_7 pd_X7_choice (Nat.le_of_ble_eq_true rfl) hd1 (hc_M0 (r := r5) (okX7_choice l E A (d - 1) n k0 (by omega)  e6 am) z9) (hc_rb rfl) rfl (fun am7 ha8 => ?_)
    obtain ⟨r10, e11, h⟩ := hx_bind h
    refine hs_callV hC 6 [_, _, _] _ dX7_constant_19 q1372 q1373 q1374 q320 q1375 np_X6 rfl OB_6 pd_X6_over (Nat.le_of_ble_eq_true rfl) hd1 (okX6_over l E A (d - 1)  (by omega)  e11 am7) (hc_rb rfl) rfl (fun am12 ha13 => ?_)
    refine hr_istore_n hC dX7_constant_22 (by decide) ?_
    refine hr_aload_n hC dX7_constant_23 rfl ?_
    refine hr_gO 6 hC F7_1 rfl dX7_constant_24 q566 ?_
    refine hr_iload_n hC dX7_constant_27 rfl ?_
    refine hr_iload_n hC dX7_constant_28 rfl ?_
    obtain ⟨r14, e15, h⟩ := hx_bind h
    refine hs_callV0 hC 6 [_, _] _ dX7_constant_29 q1384 q1385 q1386 q320 q1387 np_X6 rfl OB_6 pd_X6_setPlace (Nat.le_of_ble_eq_true rfl) hd1 (okX6_setPlace l E A (d - 1)  (by omega)  e15 am12) rfl ?_
    refine hr_iload_n hC dX7_constant_32 rfl ?_
    obtain rfl := Option.some.inj h
    exact hr_iret hC dX7_constant_33
  · rw [ht_1 z9] at h
    obtain rfl := Option.some.inj h
    exact hs_callVx (HX z9) hem 7 [] _ dX7_constant_16 q1356 q1358 qs21 q321 q1359 np_X7 rfl OB_7 pd_X7_choice (Nat.le_of_ble_eq_true rfl) hd1 (hc_M1 (r := r5) (okX7_choice l E A (d - 1) n k0 (by omega)  e6 am) z9) (hc_rb rfl) rfl
def lp_X7_enumeration_33 (n : Nat) (k0 : Nat) : Nat → Int32 → Int32 → hc_St → Option (Nat × hc_St × Int32)
  | 0, _, _, _ => none
  | m + 1, y1, y2, σ => if y2 = 0 then (some (0, σ, 0)) else (Option.bind (fm_X5_start  σ) fun r20 => Option.bind (fm_X7_name n σ) fun r24 => hv r24 (0) <| Option.bind (fm_X6_make 3 0 r24.2.1 r20 r24.2.2) fun r29 => Option.bind (fm_X7_takes n 61 r29.2) fun r33 => Option.bind (α := Nat × hc_St × Int32) (if r33.1 = 0 then (some (0, r33.2, (0 : Int32))) else (Option.bind (fm_X7_constant n k0 r33.2) fun r43 => hv r43 (0) <| Option.bind (fm_X6_hang r29.1 r43.2.1 r43.2.2) fun r48 => some (0, r48, (0 : Int32)))) fun r39 => hw r39 (0) <| Option.bind (fm_X6_hang y1 r29.1 r39.2.1) fun r53 => Option.bind (fm_X7_takes n 44 r53) fun r57 => lp_X7_enumeration_33 n k0 m y1 r57.1 r57.2)
/-- HomeCompiler$Reader.enumeration()I -/
def fm_X7_enumeration (n : Nat) (k0 : Nat)  (σ : hc_St) : Option (Nat × Int32 × hc_St) := Option.bind (fm_X5_start  σ) fun r1 => Option.bind (fm_X6_make 2 0 0 r1 σ) fun r5 => Option.bind (fm_X5_next n r5.2) fun r9 => Option.bind (fm_X7_bracket n 123 r9) fun r13 => ht r13 <| Option.bind (lp_X7_enumeration_33 n k0 n r5.1 1 r13.2.2) fun r61 => hu r61 <| Option.bind (fm_X7_closes n 125 r61.2.1) fun r66 => ht r66 <| Option.bind (fm_X7_take n 59 r66.2.2) fun r71 => ht r71 <| some (0, r5.1, r71.2.2)
set_option maxRecDepth 20000 in
set_option maxHeartbeats 4000000 in
theorem ll_X7_enumeration_33 {l : Launch} {E : hc_E} {A : Nat → Prop} {am : Nat → Nat → Nat} {d : Nat} {X : hc_X} (n : Nat) (k0 : Nat) (hD : 1 * k0 + 18 ≤ d) (hem : X.2.2.2.2.2.2.2.2.2.1.exceptionTable.isEmpty = true) {oc : hc_Oc} {σe : hc_St} (hC : hc_C hc_V0 E cX7_enumeration 5 RX7 (some .int) d oc σe (l, A, am, [2, 3, 4, 6, 12, 22]) X) : ∀ (m : Nat) (σ : hc_St) (y1 : Int32) (y2 : Int32) (rl : Nat × hc_St × Int32), lp_X7_enumeration_33 n k0 m y1 y2 σ = some rl → (rl.1 = 0 → ∀ am1, hc_At hc_V0 E 5 X 103 [(0, .ref (E.2.1 7)), (1, .int y1)] [] rl.2.1 am1 []) → (rl.1 ≠ 0 → hc_C hc_V0 E cX7_enumeration 5 RX7 (some .int) d (.inr rl.1) rl.2.1 (l, A, am, [2, 3, 4, 6, 12, 22]) X) → ∀ am1, hc_At hc_V0 E 5 X 33 [(0, .ref (E.2.1 7)), (1, .int y1), (2, .int y2)] [] σ am1 [] := by
  have hd1 : 1 ≤ d := by omega
  have hd8 : 9 ≤ d := by omega
  have hd12 : 12 ≤ d := by omega
  intro m
  induction m with
  | zero =>
    intro σ y1 y2 rl h
    cases h
  | succ m ih =>
    intro σ y1 y2 rl h JX HX am1
    rw [lp_X7_enumeration_33] at h
    refine hr_iload_n hC dX7_enumeration_33 rfl ?_
    refine hr_if_eq (x := _) hC 103 dX7_enumeration_34 (by decide) (fun c19 => ?_) (fun c19 => ?_)
    · rw [if_pos c19] at h
      obtain rfl := Option.some.inj h
      exact hr_sub _ rfl (JX rfl am1)
    · rw [if_neg c19] at h
      refine hr_aload_n hC dX7_enumeration_37 rfl ?_
      refine hr_gO 5 hC F7_0 rfl dX7_enumeration_38 q565 ?_
      obtain ⟨r20, e21, h⟩ := hx_bind h
      refine hs_callV0 hC 5 [] _ dX7_enumeration_41 q1258 q1259 q1260 q319 q1261 np_X5 rfl OB_5 pd_X5_start (Nat.le_of_ble_eq_true rfl) hd1 (okX5_start l E A (d - 1)  (by omega)  e21 am1) rfl ?_
      refine hr_istore_n hC dX7_enumeration_44 (by decide) ?_
      refine hr_aload_n hC dX7_enumeration_45 rfl ?_
      refine hr_gO 6 hC F7_1 rfl dX7_enumeration_46 q566 ?_
      refine hr_iconst (v := 3) hC dX7_enumeration_49 rfl ?_
      refine hr_iconst (v := 0) hC dX7_enumeration_50 rfl ?_
      refine hr_aload_n hC dX7_enumeration_51 rfl ?_
      obtain ⟨r24, e25, h⟩ := hx_bind h
      by_cases z28 : r24.1 = 0
      · rw [hv_0 z28] at h
        refine hs_callV hC 7 [] _ dX7_enumeration_52 q1340 q1342 qs18 q321 q1343 np_X7 rfl OB_7 pd_X7_name (Nat.le_of_ble_eq_true rfl) hd1 (hc_M0 (r := r24) (okX7_name l E A (d - 1) n (by omega)  e25 am1) z28) (hc_rb rfl) rfl (fun am26 ha27 => ?_)
        refine hr_iload_n hC dX7_enumeration_55 rfl ?_
        obtain ⟨r29, e30, h⟩ := hx_bind h
        refine hs_callV hC 6 [_, _, _, _] _ dX7_enumeration_56 q1230 q1231 q1232 q320 q1233 np_X6 rfl OB_6 pd_X6_make (Nat.le_of_ble_eq_true rfl) hd1 (okX6_make l E A (d - 1)  (by omega)  e30 am26) (hc_rb rfl) rfl (fun am31 ha32 => ?_)
        refine hr_istore hC dX7_enumeration_59 (by decide) ?_
        refine hr_aload_n hC dX7_enumeration_61 rfl ?_
        refine hr_bipush (v := 61) hC dX7_enumeration_62 rfl ?_
        obtain ⟨r33, e34, h⟩ := hx_bind h
        refine hs_callV hC 7 [_] _ dX7_enumeration_64 q1348 q1350 qs19 q321 q1351 np_X7 rfl OB_7 pd_X7_takes (Nat.le_of_ble_eq_true rfl) hd1 (okX7_takes l E A (d - 1) n (by omega)  e34 am31) (hc_rb rfl) rfl (fun am35 ha36 => ?_)
        obtain ⟨r39, e40, h⟩ := hx_bind h
        have J41 : r39.1 = 0 → ∀ am52, hc_At hc_V0 E 5 X 83 [(0, .ref (E.2.1 7)), (1, .int y1), (4, .int r29.1)] [] r39.2.1 am52 [] := by
          intro z42 am52
          rw [hw_0 z42] at h
          refine hr_aload_n hC dX7_enumeration_83 rfl ?_
          refine hr_gO 6 hC F7_1 rfl dX7_enumeration_84 q566 ?_
          refine hr_iload_n hC dX7_enumeration_87 rfl ?_
          refine hr_iload hC dX7_enumeration_88 rfl ?_
          obtain ⟨r53, e54, h⟩ := hx_bind h
          refine hs_callV0 hC 6 [_, _] _ dX7_enumeration_90 q1412 q1378 q1379 q320 q1380 np_X6 rfl OB_6 pd_X6_hang (Nat.le_of_ble_eq_true rfl) hd1 (okX6_hang l E A (d - 1)  (by omega)  e54 am52) rfl ?_
          refine hr_aload_n hC dX7_enumeration_93 rfl ?_
          refine hr_bipush (v := 44) hC dX7_enumeration_94 rfl ?_
          obtain ⟨r57, e58, h⟩ := hx_bind h
          refine hs_callV hC 7 [_] _ dX7_enumeration_96 q1348 q1350 qs19 q321 q1351 np_X7 rfl OB_7 pd_X7_takes (Nat.le_of_ble_eq_true rfl) hd1 (okX7_takes l E A (d - 1) n (by omega)  e58 am52) (hc_rb rfl) rfl (fun am59 ha60 => ?_)
          refine hr_istore_n hC dX7_enumeration_99 (by decide) ?_
          refine hr_goto hC 33 dX7_enumeration_100 (by decide) ?_
          exact hr_sub _ rfl (ih _ _ _ _ h JX HX am59)
        have HX : r39.1 ≠ 0 → hc_C hc_V0 E cX7_enumeration 5 RX7 (some .int) d (.inr r39.1) r39.2.1 (l, A, am, [2, 3, 4, 6, 12, 22]) X := by
          intro z42
          rw [hw_1 z42] at h
          obtain rfl := Option.some.inj h
          exact HX z42
        clear h
        have h := e40
        refine hr_if_eq (x := _) hC 83 dX7_enumeration_67 (by decide) (fun c38 => ?_) (fun c38 => ?_)
        · rw [if_pos c38] at h
          obtain rfl := Option.some.inj h
          exact hr_sub _ rfl (J41 rfl am35)
        · rw [if_neg c38] at h
          refine hr_aload_n hC dX7_enumeration_70 rfl ?_
          refine hr_gO 6 hC F7_1 rfl dX7_enumeration_71 q566 ?_
          refine hr_iload hC dX7_enumeration_74 rfl ?_
          refine hr_aload_n hC dX7_enumeration_76 rfl ?_
          obtain ⟨r43, e44, h⟩ := hx_bind h
          by_cases z47 : r43.1 = 0
          · rw [hv_0 z47] at h
            refine hs_callV hC 7 [] _ dX7_enumeration_77 q1352 q1354 qs20 q321 q1355 np_X7 rfl OB_7 pd_X7_constant (Nat.le_of_ble_eq_true rfl) hd1 (hc_M0 (r := r43) (okX7_constant l E A (d - 1) n k0 (by omega)  e44 am35) z47) (hc_rb rfl) rfl (fun am45 ha46 => ?_)
            obtain ⟨r48, e49, h⟩ := hx_bind h
            refine hs_callV0 hC 6 [_, _] _ dX7_enumeration_80 q1412 q1378 q1379 q320 q1380 np_X6 rfl OB_6 pd_X6_hang (Nat.le_of_ble_eq_true rfl) hd1 (okX6_hang l E A (d - 1)  (by omega)  e49 am45) rfl ?_
            obtain rfl := Option.some.inj h
            exact hr_sub _ rfl (J41 rfl am45)
          · rw [hv_1 z47] at h
            obtain rfl := Option.some.inj h
            exact hs_callVx (HX z47) hem 7 [] _ dX7_enumeration_77 q1352 q1354 qs20 q321 q1355 np_X7 rfl OB_7 pd_X7_constant (Nat.le_of_ble_eq_true rfl) hd1 (hc_M1 (r := r43) (okX7_constant l E A (d - 1) n k0 (by omega)  e44 am35) z47) (hc_rb rfl) rfl
      · rw [hv_1 z28] at h
        obtain rfl := Option.some.inj h
        exact hs_callVx (HX z28) hem 7 [] _ dX7_enumeration_52 q1340 q1342 qs18 q321 q1343 np_X7 rfl OB_7 pd_X7_name (Nat.le_of_ble_eq_true rfl) hd1 (hc_M1 (r := r24) (okX7_name l E A (d - 1) n (by omega)  e25 am1) z28) (hc_rb rfl) rfl
set_option maxRecDepth 20000 in
set_option maxHeartbeats 4000000 in
theorem okX7_enumeration (l : Launch) (E : hc_E) (A : Nat → Prop) (d : Nat) (n : Nat) (k0 : Nat) (hD : 1 * k0 + 18 ≤ d)  {σ : hc_St} {r : (Nat × Int32 × hc_St)} (h : fm_X7_enumeration n k0  σ = some r) (am : Nat → Nat → Nat) : hc_M l hc_V0 yX7_enumeration (ws_ yX7_enumeration cX7_enumeration 5 (some .int)) d E A [.ref (E.2.1 7)] am [2, 3, 4, 6, 12, 22] σ (hc_ot (fun v => some (.int v)) r) r.2.2 := by
  have hd1 : 1 ≤ d := by omega
  have hd8 : 9 ≤ d := by omega
  have hd12 : 12 ≤ d := by omega
  refine hc_enter2 (own := RX7) [(0, .ref (E.2.1 7))] pl_X7 rfl hc_V0_st hc_G0_nd rfl (Nat.le_of_ble_eq_true rfl) (fun X hC hem => ?_)
  have HX := fun z => hc_CX hC z
  unfold fm_X7_enumeration at h
  refine hr_aload_n hC dX7_enumeration_0 rfl ?_
  refine hr_gO 6 hC F7_1 rfl dX7_enumeration_1 q566 ?_
  refine hr_iconst (v := 2) hC dX7_enumeration_4 rfl ?_
  refine hr_iconst (v := 0) hC dX7_enumeration_5 rfl ?_
  refine hr_iconst (v := 0) hC dX7_enumeration_6 rfl ?_
  refine hr_aload_n hC dX7_enumeration_7 rfl ?_
  refine hr_gO 5 hC F7_0 rfl dX7_enumeration_8 q565 ?_
  obtain ⟨r1, e2, h⟩ := hx_bind h
  refine hs_callV0 hC 5 [] _ dX7_enumeration_11 q1258 q1259 q1260 q319 q1261 np_X5 rfl OB_5 pd_X5_start (Nat.le_of_ble_eq_true rfl) hd1 (okX5_start l E A (d - 1)  (by omega)  e2 am) rfl ?_
  obtain ⟨r5, e6, h⟩ := hx_bind h
  refine hs_callV hC 6 [_, _, _, _] _ dX7_enumeration_14 q1230 q1231 q1232 q320 q1233 np_X6 rfl OB_6 pd_X6_make (Nat.le_of_ble_eq_true rfl) hd1 (okX6_make l E A (d - 1)  (by omega)  e6 am) (hc_rb rfl) rfl (fun am7 ha8 => ?_)
  refine hr_istore_n hC dX7_enumeration_17 (by decide) ?_
  refine hr_aload_n hC dX7_enumeration_18 rfl ?_
  refine hr_gO 5 hC F7_0 rfl dX7_enumeration_19 q565 ?_
  obtain ⟨r9, e10, h⟩ := hx_bind h
  refine hs_callV hC 5 [] _ dX7_enumeration_22 q1262 q1076 q1077 q319 q1078 np_X5 rfl OB_5 pd_X5_next (Nat.le_of_ble_eq_true rfl) hd1 (okX5_next l E A (d - 1) n (by omega)  e10 am7) (hc_rb rfl) rfl (fun am11 ha12 => ?_)
  refine hr_aload_n hC dX7_enumeration_25 rfl ?_
  refine hr_bipush (v := 123) hC dX7_enumeration_26 rfl ?_
  obtain ⟨r13, e14, h⟩ := hx_bind h
  by_cases z17 : r13.1 = 0
  · rw [ht_0 z17] at h
    refine hs_callV hC 7 [_] _ dX7_enumeration_28 q1263 q1265 qs15 q321 q1266 np_X7 rfl OB_7 pd_X7_bracket (Nat.le_of_ble_eq_true rfl) hd1 (hc_M0 (r := r13) (okX7_bracket l E A (d - 1) n (by omega)  e14 am11) z17) (hc_rb rfl) rfl (fun am15 ha16 => ?_)
    refine hr_iconst (v := 1) hC dX7_enumeration_31 rfl ?_
    refine hr_istore_n hC dX7_enumeration_32 (by decide) ?_
    obtain ⟨r61, e62, h⟩ := hx_bind h
    refine hr_sub _ rfl (ll_X7_enumeration_33 n k0 hD hem hC n _ _ _ _ e62 (fun z64 am65 => ?_) (fun z64 => ?_) am15)
    · rw [hu_0 z64] at h
      refine hr_aload_n hC dX7_enumeration_103 rfl ?_
      refine hr_bipush (v := 125) hC dX7_enumeration_104 rfl ?_
      obtain ⟨r66, e67, h⟩ := hx_bind h
      by_cases z70 : r66.1 = 0
      · rw [ht_0 z70] at h
        refine hs_callV hC 7 [_] _ dX7_enumeration_106 q1438 q1440 qs33 q321 q1441 np_X7 rfl OB_7 pd_X7_closes (Nat.le_of_ble_eq_true rfl) hd1 (hc_M0 (r := r66) (okX7_closes l E A (d - 1) n (by omega)  e67 am65) z70) (hc_rb rfl) rfl (fun am68 ha69 => ?_)
        refine hr_aload_n hC dX7_enumeration_109 rfl ?_
        refine hr_bipush (v := 59) hC dX7_enumeration_110 rfl ?_
        obtain ⟨r71, e72, h⟩ := hx_bind h
        by_cases z75 : r71.1 = 0
        · rw [ht_0 z75] at h
          refine hs_callV hC 7 [_] _ dX7_enumeration_112 q1434 q1436 qs32 q321 q1437 np_X7 rfl OB_7 pd_X7_take (Nat.le_of_ble_eq_true rfl) hd1 (hc_M0 (r := r71) (okX7_take l E A (d - 1) n (by omega)  e72 am68) z75) (hc_rb rfl) rfl (fun am73 ha74 => ?_)
          refine hr_iload_n hC dX7_enumeration_115 rfl ?_
          obtain rfl := Option.some.inj h
          exact hr_iret hC dX7_enumeration_116
        · rw [ht_1 z75] at h
          obtain rfl := Option.some.inj h
          exact hs_callVx (HX z75) hem 7 [_] _ dX7_enumeration_112 q1434 q1436 qs32 q321 q1437 np_X7 rfl OB_7 pd_X7_take (Nat.le_of_ble_eq_true rfl) hd1 (hc_M1 (r := r71) (okX7_take l E A (d - 1) n (by omega)  e72 am68) z75) (hc_rb rfl) rfl
      · rw [ht_1 z70] at h
        obtain rfl := Option.some.inj h
        exact hs_callVx (HX z70) hem 7 [_] _ dX7_enumeration_106 q1438 q1440 qs33 q321 q1441 np_X7 rfl OB_7 pd_X7_closes (Nat.le_of_ble_eq_true rfl) hd1 (hc_M1 (r := r66) (okX7_closes l E A (d - 1) n (by omega)  e67 am65) z70) (hc_rb rfl) rfl
    · rw [hu_1 z64] at h
      obtain rfl := Option.some.inj h
      exact HX z64
  · rw [ht_1 z17] at h
    obtain rfl := Option.some.inj h
    exact hs_callVx (HX z17) hem 7 [_] _ dX7_enumeration_28 q1263 q1265 qs15 q321 q1266 np_X7 rfl OB_7 pd_X7_bracket (Nat.le_of_ble_eq_true rfl) hd1 (hc_M1 (r := r13) (okX7_bracket l E A (d - 1) n (by omega)  e14 am11) z17) (hc_rb rfl) rfl
