set_option maxRecDepth 20000
/-- HomeCompilerModel.name()I -/
def fm_X21_name   (σ : hc_St) : Option (Nat × Int32 × hc_St) := hk (inb ((gI σ 23 15)) (gL σ 23 13)) <| hl (α := Int32) ((if (gC σ 23 13 ((gI σ 23 15))).toInt8.toInt32 = 1 then 1 else 0)) fun v4 => Option.bind (fm_X21_need v4 σ) fun r5 => ht r5 <| hl (pI r5.2.2 23 15 ((((gI r5.2.2 23 15)) + 1))) fun σ10 => some (0, (((gI σ10 23 15)) - 1), σ10)
set_option maxRecDepth 20000 in
set_option maxHeartbeats 4000000 in
theorem okX21_name (l : Launch) (E : hc_E) (A : Nat → Prop) (d : Nat)  (hD : 14 ≤ d)  {σ : hc_St} {r : (Nat × Int32 × hc_St)} (h : fm_X21_name   σ = some r) (am : Nat → Nat → Nat) : hc_M l hc_V0 yX21_name (ws_ yX21_name cX21_name 1 (some .int)) d E A [.ref (E.2.1 23)] am [] σ (hc_ot (fun v => some (.int v)) r) r.2.2 := by
  have hd1 : 1 ≤ d := by omega
  have hd8 : 9 ≤ d := by omega
  have hd12 : 12 ≤ d := by omega
  refine hc_enter2 (own := RX21) [(0, .ref (E.2.1 23))] pl_X21 rfl hc_V0_st hc_G0_nd rfl (Nat.le_of_ble_eq_true rfl) (fun X hC hem => ?_)
  have HX := fun z => hc_CX hC z
  unfold fm_X21_name at h
  refine hr_aload_n hC dX21_name_0 rfl ?_
  refine hr_aload_n hC dX21_name_1 rfl ?_
  refine hr_gA hC F23_13 rfl dX21_name_2 q2855 ?_
  refine hr_aload_n hC dX21_name_5 rfl ?_
  refine hr_gI hC F23_15 dX21_name_6 q2857 ?_
  obtain ⟨c1, h⟩ := hk_ok h
  refine hs_bald hC A23_13 c1 dX21_name_9 ?_
  refine hr_iconst (v := 1) hC dX21_name_10 rfl ?_
  obtain ⟨v4, hv4, h⟩ := hl_ok h
  have J11 : ∀ w12 : Int32, (if (gC σ 23 13 ((gI σ 23 15))).toInt8.toInt32 = 1 then 1 else 0) = w12 → hc_At hc_V0 E 1 X 19 [(0, .ref (E.2.1 23))] [.int w12, .ref (E.2.1 23)] σ am [] := by
    intro w12 hw12
    obtain rfl := hv4.trans hw12
    obtain ⟨r5, e6, h⟩ := hx_bind h
    by_cases z9 : r5.1 = 0
    · rw [ht_0 z9] at h
      refine hs_callV0 hC 23 [_] _ dX21_name_19 q3218 q3220 qs192 q335 q3221 np_X21 rfl OB_23 pd_X21_need (Nat.le_of_ble_eq_true rfl) hd1 (hc_M0 (r := r5) (okX21_need l E A (d - 1)  (by omega)  e6 am) z9) rfl ?_
      refine hr_aload_n hC dX21_name_22 rfl ?_
      refine hr_dup hC dX21_name_23 rfl ?_
      refine hr_gI hC F23_15 dX21_name_24 q2857 ?_
      refine hr_iconst (v := 1) hC dX21_name_27 rfl ?_
      refine hr_iadd hC dX21_name_28 ?_
      obtain ⟨σ10, hσ10, h⟩ := hl_ok h
      refine hr_pI hC F23_15 PX21_15 dX21_name_29 q2857 ?_
      rw [← hσ10]
      refine hr_aload_n hC dX21_name_32 rfl ?_
      refine hr_gI hC F23_15 dX21_name_33 q2857 ?_
      refine hr_iconst (v := 1) hC dX21_name_36 rfl ?_
      refine hr_isub hC dX21_name_37 ?_
      obtain rfl := Option.some.inj h
      exact hr_iret hC dX21_name_38
    · rw [ht_1 z9] at h
      obtain rfl := Option.some.inj h
      exact hs_callVx (HX z9) hem 23 [_] _ dX21_name_19 q3218 q3220 qs192 q335 q3221 np_X21 rfl OB_23 pd_X21_need (Nat.le_of_ble_eq_true rfl) hd1 (hc_M1 (r := r5) (okX21_need l E A (d - 1)  (by omega)  e6 am) z9) (hc_rb rfl) rfl
  refine hr_icmp_ne (x := _) hC 18 dX21_name_11 (by decide) (fun c13 => ?_) (fun c13 => ?_)
  · refine hr_iconst (v := 0) hC dX21_name_18 rfl ?_
    exact hr_sub _ rfl (J11 _ (by first | (rw [if_neg c13]; done) | (simp only [if_neg c13]; done) | rfl))
  · refine hr_iconst (v := 1) hC dX21_name_14 rfl ?_
    refine hr_goto hC 19 dX21_name_15 (by decide) ?_
    exact hr_sub _ rfl (J11 _ (by first | (rw [if_pos c13]; done) | (simp only [if_pos c13]; done) | rfl))
/-- HomeCompilerModel.takes(Ljava/lang/String;)Z -/
def fm_X21_takes  (x1 : Int32) (σ : hc_St) : Option (Int32 × hc_St) := Option.bind (fm_X21_is x1 σ) fun r1 => hl (α := Int32) ((if r1 = 0 then (gI σ 23 15) else (((gI σ 23 15)) + 1))) fun v7 => hl (pI σ 23 15 v7) fun σ8 => hk (hb01 r1) <| some (r1, σ8)
set_option maxRecDepth 20000 in
set_option maxHeartbeats 4000000 in
theorem okX21_takes (l : Launch) (E : hc_E) (A : Nat → Prop) (d : Nat)  (hD : 11 ≤ d) {x1 : Int32} {σ : hc_St} {r : (Int32 × hc_St)} (h : fm_X21_takes  x1 σ = some r) (am : Nat → Nat → Nat) : hc_M l hc_V0 yX21_takes (ws_ yX21_takes cX21_takes 3 (some .boolean)) d E A [.ref (E.2.1 23), .ref (E.2.2.2.1 (x1 : Int32).toNatClampNeg)] am [] σ (.inl (some (.int r.1))) r.2 := by
  have hd1 : 1 ≤ d := by omega
  have hd8 : 9 ≤ d := by omega
  refine hc_enter2 (own := RX21) [(0, .ref (E.2.1 23)), (1, .ref (E.2.2.2.1 (x1 : Int32).toNatClampNeg))] pl_X21 rfl hc_V0_st hc_G0_nd rfl (Nat.le_of_ble_eq_true rfl) (fun X hC hem => ?_)
  unfold fm_X21_takes at h
  refine hr_aload_n hC dX21_takes_0 rfl ?_
  refine hr_aload_n hC dX21_takes_1 rfl ?_
  obtain ⟨r1, e2, h⟩ := hx_bind h
  refine hs_callV0 hC 23 [_] _ dX21_takes_2 q3202 q3204 qs190 q335 q3205 np_X21 rfl OB_23 pd_X21_is (Nat.le_of_ble_eq_true rfl) hd1 (okX21_is l E A (d - 1)  (by omega)  e2 am) rfl ?_
  refine hr_istore_n hC dX21_takes_5 (by decide) ?_
  refine hr_aload_n hC dX21_takes_6 rfl ?_
  refine hr_iload_n hC dX21_takes_7 rfl ?_
  obtain ⟨v7, hv7, h⟩ := hl_ok h
  have J10 : ∀ w11 : Int32, (if r1 = 0 then (gI σ 23 15) else (((gI σ 23 15)) + 1)) = w11 → hc_At hc_V0 E 3 X 24 [(2, .int r1)] [.int w11, .ref (E.2.1 23)] σ am [] := by
    intro w11 hw11
    obtain rfl := hv7.trans hw11
    obtain ⟨σ8, hσ8, h⟩ := hl_ok h
    refine hr_pI hC F23_15 PX21_15 dX21_takes_24 q2857 ?_
    rw [← hσ8]
    refine hr_iload_n hC dX21_takes_27 rfl ?_
    obtain ⟨c9, h⟩ := hk_ok h
    obtain rfl := Option.some.inj h
    exact hr_zret hC (hb01_n c9) dX21_takes_28
  refine hr_if_eq (x := _) hC 20 dX21_takes_8 (by decide) (fun c12 => ?_) (fun c12 => ?_)
  · refine hr_aload_n hC dX21_takes_20 rfl ?_
    refine hr_gI hC F23_15 dX21_takes_21 q2857 ?_
    exact hr_sub _ rfl (J10 _ (by first | (rw [if_pos c12]; done) | (simp only [if_pos c12]; done) | rfl))
  · refine hr_aload_n hC dX21_takes_11 rfl ?_
    refine hr_gI hC F23_15 dX21_takes_12 q2857 ?_
    refine hr_iconst (v := 1) hC dX21_takes_15 rfl ?_
    refine hr_iadd hC dX21_takes_16 ?_
    refine hr_goto hC 24 dX21_takes_17 (by decide) ?_
    exact hr_sub _ rfl (J10 _ (by first | (rw [if_neg c12]; done) | (simp only [if_neg c12]; done) | rfl))
/-- HomeCompilerModel.isPrefix()Z -/
def fm_X21_isPrefix   (σ : hc_St) : Option Int32 := Option.bind (fm_X21_is 91 σ) fun r1 => Option.bind (α := Int32) (if r1 = 0 then (Option.bind (fm_X21_is 90 σ) fun r11 => if r11 = 0 then (Option.bind (fm_X21_is 95 σ) fun r17 => if r17 = 0 then (Option.bind (fm_X21_is 96 σ) fun r23 => if r23 = 0 then (Option.bind (fm_X21_is 72 σ) fun r29 => if r29 = 0 then (Option.bind (fm_X21_is 73 σ) fun r35 => if r35 = 0 then (some (0)) else (some (1))) else (some (1))) else (some (1))) else (some (1))) else (some (1))) else (some (1))) fun r7 => hk (hb01 r7) <| some r7
set_option maxRecDepth 20000 in
set_option maxHeartbeats 4000000 in
theorem okX21_isPrefix (l : Launch) (E : hc_E) (A : Nat → Prop) (d : Nat)  (hD : 11 ≤ d)  {σ : hc_St} {r : Int32} (h : fm_X21_isPrefix   σ = some r) (am : Nat → Nat → Nat) : hc_M l hc_V0 yX21_isPrefix (ws_ yX21_isPrefix cX21_isPrefix 1 (some .boolean)) d E A [.ref (E.2.1 23)] am [] σ (.inl (some (.int r))) σ := by
  have hd1 : 1 ≤ d := by omega
  have hd8 : 9 ≤ d := by omega
  refine hc_enter2 (own := RX21) [(0, .ref (E.2.1 23))] pl_X21 rfl hc_V0_st hc_G0_nd rfl (Nat.le_of_ble_eq_true rfl) (fun X hC hem => ?_)
  unfold fm_X21_isPrefix at h
  refine hr_aload_n hC dX21_isPrefix_0 rfl ?_
  refine hr_ldcs (v := 91) 91 hC dX21_isPrefix_1 (List.mem_of_getElem? (i := 91) rfl) (by decide) rfl ?_
  obtain ⟨r1, e2, h⟩ := hx_bind h
  refine hs_callV0 hC 23 [_] _ dX21_isPrefix_3 q3202 q3204 qs190 q335 q3205 np_X21 rfl OB_23 pd_X21_is (Nat.le_of_ble_eq_true rfl) hd1 (okX21_is l E A (d - 1)  (by omega)  e2 am) rfl ?_
  obtain ⟨r7, e8, h⟩ := hx_bind h
  have J9 : hc_At hc_V0 E 1 X 59 [] [.int r7] σ am [] := by
    obtain ⟨c41, h⟩ := hk_ok h
    obtain rfl := Option.some.inj h
    exact hr_zret hC (hb01_n c41) dX21_isPrefix_59
  clear h
  have h := e8
  refine hr_if_ne (x := _) hC 54 dX21_isPrefix_6 (by decide) (fun c6 => ?_) (fun c6 => ?_)
  · rw [if_neg c6] at h
    refine hr_iconst (v := 1) hC dX21_isPrefix_54 rfl ?_
    refine hr_goto hC 59 dX21_isPrefix_55 (by decide) ?_
    obtain rfl := Option.some.inj h
    exact hr_sub _ rfl (J9)
  · rw [if_pos c6] at h
    refine hr_aload_n hC dX21_isPrefix_9 rfl ?_
    refine hr_ldcs (v := 90) 90 hC dX21_isPrefix_10 (List.mem_of_getElem? (i := 90) rfl) (by decide) rfl ?_
    obtain ⟨r11, e12, h⟩ := hx_bind h
    refine hs_callV0 hC 23 [_] _ dX21_isPrefix_12 q3202 q3204 qs190 q335 q3205 np_X21 rfl OB_23 pd_X21_is (Nat.le_of_ble_eq_true rfl) hd1 (okX21_is l E A (d - 1)  (by omega)  e12 am) rfl ?_
    refine hr_if_ne (x := _) hC 54 dX21_isPrefix_15 (by decide) (fun c16 => ?_) (fun c16 => ?_)
    · rw [if_neg c16] at h
      refine hr_iconst (v := 1) hC dX21_isPrefix_54 rfl ?_
      refine hr_goto hC 59 dX21_isPrefix_55 (by decide) ?_
      obtain rfl := Option.some.inj h
      exact hr_sub _ rfl (J9)
    · rw [if_pos c16] at h
      refine hr_aload_n hC dX21_isPrefix_18 rfl ?_
      refine hr_ldcs (v := 95) 95 hC dX21_isPrefix_19 (List.mem_of_getElem? (i := 95) rfl) (by decide) rfl ?_
      obtain ⟨r17, e18, h⟩ := hx_bind h
      refine hs_callV0 hC 23 [_] _ dX21_isPrefix_21 q3202 q3204 qs190 q335 q3205 np_X21 rfl OB_23 pd_X21_is (Nat.le_of_ble_eq_true rfl) hd1 (okX21_is l E A (d - 1)  (by omega)  e18 am) rfl ?_
      refine hr_if_ne (x := _) hC 54 dX21_isPrefix_24 (by decide) (fun c22 => ?_) (fun c22 => ?_)
      · rw [if_neg c22] at h
        refine hr_iconst (v := 1) hC dX21_isPrefix_54 rfl ?_
        refine hr_goto hC 59 dX21_isPrefix_55 (by decide) ?_
        obtain rfl := Option.some.inj h
        exact hr_sub _ rfl (J9)
      · rw [if_pos c22] at h
        refine hr_aload_n hC dX21_isPrefix_27 rfl ?_
        refine hr_ldcs (v := 96) 96 hC dX21_isPrefix_28 (List.mem_of_getElem? (i := 96) rfl) (by decide) rfl ?_
        obtain ⟨r23, e24, h⟩ := hx_bind h
        refine hs_callV0 hC 23 [_] _ dX21_isPrefix_30 q3202 q3204 qs190 q335 q3205 np_X21 rfl OB_23 pd_X21_is (Nat.le_of_ble_eq_true rfl) hd1 (okX21_is l E A (d - 1)  (by omega)  e24 am) rfl ?_
        refine hr_if_ne (x := _) hC 54 dX21_isPrefix_33 (by decide) (fun c28 => ?_) (fun c28 => ?_)
        · rw [if_neg c28] at h
          refine hr_iconst (v := 1) hC dX21_isPrefix_54 rfl ?_
          refine hr_goto hC 59 dX21_isPrefix_55 (by decide) ?_
          obtain rfl := Option.some.inj h
          exact hr_sub _ rfl (J9)
        · rw [if_pos c28] at h
          refine hr_aload_n hC dX21_isPrefix_36 rfl ?_
          refine hr_ldcs (v := 72) 72 hC dX21_isPrefix_37 (List.mem_of_getElem? (i := 72) rfl) (by decide) rfl ?_
          obtain ⟨r29, e30, h⟩ := hx_bind h
          refine hs_callV0 hC 23 [_] _ dX21_isPrefix_39 q3202 q3204 qs190 q335 q3205 np_X21 rfl OB_23 pd_X21_is (Nat.le_of_ble_eq_true rfl) hd1 (okX21_is l E A (d - 1)  (by omega)  e30 am) rfl ?_
          refine hr_if_ne (x := _) hC 54 dX21_isPrefix_42 (by decide) (fun c34 => ?_) (fun c34 => ?_)
          · rw [if_neg c34] at h
            refine hr_iconst (v := 1) hC dX21_isPrefix_54 rfl ?_
            refine hr_goto hC 59 dX21_isPrefix_55 (by decide) ?_
            obtain rfl := Option.some.inj h
            exact hr_sub _ rfl (J9)
          · rw [if_pos c34] at h
            refine hr_aload_n hC dX21_isPrefix_45 rfl ?_
            refine hr_ldcs (v := 73) 73 hC dX21_isPrefix_46 (List.mem_of_getElem? (i := 73) rfl) (by decide) rfl ?_
            obtain ⟨r35, e36, h⟩ := hx_bind h
            refine hs_callV0 hC 23 [_] _ dX21_isPrefix_48 q3202 q3204 qs190 q335 q3205 np_X21 rfl OB_23 pd_X21_is (Nat.le_of_ble_eq_true rfl) hd1 (okX21_is l E A (d - 1)  (by omega)  e36 am) rfl ?_
            refine hr_if_eq (x := _) hC 58 dX21_isPrefix_51 (by decide) (fun c40 => ?_) (fun c40 => ?_)
            · rw [if_pos c40] at h
              refine hr_iconst (v := 0) hC dX21_isPrefix_58 rfl ?_
              obtain rfl := Option.some.inj h
              exact hr_sub _ rfl (J9)
            · rw [if_neg c40] at h
              refine hr_iconst (v := 1) hC dX21_isPrefix_54 rfl ?_
              refine hr_goto hC 59 dX21_isPrefix_55 (by decide) ?_
              obtain rfl := Option.some.inj h
              exact hr_sub _ rfl (J9)
/-- HomeCompilerModel.isAssigning()Z -/
def fm_X21_isAssigning   (σ : hc_St) : Option Int32 := hk (inb ((gI σ 23 15)) (gL σ 23 13)) <| if (gC σ 23 13 ((gI σ 23 15))).toInt8.toInt32 = 5 then (hk (inb ((gI σ 23 15)) (gL σ 23 14)) <| Option.bind (α := Int32) (if (gC σ 23 14 ((gI σ 23 15))) < 10 then (some (1)) else (Option.bind (fm_X21_is 84 σ) fun r11 => if r11 = 0 then (some (0)) else (some (1)))) fun r7 => hk (hb01 r7) <| some r7) else (some 0)
set_option maxRecDepth 20000 in
set_option maxHeartbeats 4000000 in
theorem okX21_isAssigning (l : Launch) (E : hc_E) (A : Nat → Prop) (d : Nat)  (hD : 11 ≤ d)  {σ : hc_St} {r : Int32} (h : fm_X21_isAssigning   σ = some r) (am : Nat → Nat → Nat) : hc_M l hc_V0 yX21_isAssigning (ws_ yX21_isAssigning cX21_isAssigning 2 (some .boolean)) d E A [.ref (E.2.1 23)] am [] σ (.inl (some (.int r))) σ := by
  have hd1 : 1 ≤ d := by omega
  have hd8 : 9 ≤ d := by omega
  refine hc_enter2 (own := RX21) [(0, .ref (E.2.1 23))] pl_X21 rfl hc_V0_st hc_G0_nd rfl (Nat.le_of_ble_eq_true rfl) (fun X hC hem => ?_)
  unfold fm_X21_isAssigning at h
  refine hr_aload_n hC dX21_isAssigning_0 rfl ?_
  refine hr_gA hC F23_13 rfl dX21_isAssigning_1 q2855 ?_
  refine hr_aload_n hC dX21_isAssigning_4 rfl ?_
  refine hr_gI hC F23_15 dX21_isAssigning_5 q2857 ?_
  obtain ⟨c1, h⟩ := hk_ok h
  refine hs_bald hC A23_13 c1 dX21_isAssigning_8 ?_
  refine hr_iconst (v := 5) hC dX21_isAssigning_9 rfl ?_
  refine hr_icmp_eq (x := _) hC 15 dX21_isAssigning_10 (by decide) (fun c3 => ?_) (fun c3 => ?_)
  · rw [if_pos c3] at h
    refine hr_aload_n hC dX21_isAssigning_15 rfl ?_
    refine hr_gA hC F23_14 rfl dX21_isAssigning_16 q2856 ?_
    refine hr_aload_n hC dX21_isAssigning_19 rfl ?_
    refine hr_gI hC F23_15 dX21_isAssigning_20 q2857 ?_
    obtain ⟨c4, h⟩ := hk_ok h
    refine hs_iald hC A23_14 c4 dX21_isAssigning_23 ?_
    refine hr_istore_n hC dX21_isAssigning_24 (by decide) ?_
    refine hr_iload_n hC dX21_isAssigning_25 rfl ?_
    refine hr_bipush (v := 10) hC dX21_isAssigning_26 rfl ?_
    obtain ⟨r7, e8, h⟩ := hx_bind h
    have J9 : hc_At hc_V0 E 2 X 45 [] [.int r7] σ am [] := by
      obtain ⟨c17, h⟩ := hk_ok h
      obtain rfl := Option.some.inj h
      exact hr_zret hC (hb01_n c17) dX21_isAssigning_45
    clear h
    have h := e8
    refine hr_icmp_lt (x := _) hC 40 dX21_isAssigning_28 (by decide) (fun c6 => ?_) (fun c6 => ?_)
    · rw [if_pos c6] at h
      refine hr_iconst (v := 1) hC dX21_isAssigning_40 rfl ?_
      refine hr_goto hC 45 dX21_isAssigning_41 (by decide) ?_
      obtain rfl := Option.some.inj h
      exact hr_sub _ rfl (J9)
    · rw [if_neg c6] at h
      refine hr_aload_n hC dX21_isAssigning_31 rfl ?_
      refine hr_ldcs (v := 84) 84 hC dX21_isAssigning_32 (List.mem_of_getElem? (i := 84) rfl) (by decide) rfl ?_
      obtain ⟨r11, e12, h⟩ := hx_bind h
      refine hs_callV0 hC 23 [_] _ dX21_isAssigning_34 q3202 q3204 qs190 q335 q3205 np_X21 rfl OB_23 pd_X21_is (Nat.le_of_ble_eq_true rfl) hd1 (okX21_is l E A (d - 1)  (by omega)  e12 am) rfl ?_
      refine hr_if_eq (x := _) hC 44 dX21_isAssigning_37 (by decide) (fun c16 => ?_) (fun c16 => ?_)
      · rw [if_pos c16] at h
        refine hr_iconst (v := 0) hC dX21_isAssigning_44 rfl ?_
        obtain rfl := Option.some.inj h
        exact hr_sub _ rfl (J9)
      · rw [if_neg c16] at h
        refine hr_iconst (v := 1) hC dX21_isAssigning_40 rfl ?_
        refine hr_goto hC 45 dX21_isAssigning_41 (by decide) ?_
        obtain rfl := Option.some.inj h
        exact hr_sub _ rfl (J9)
  · rw [if_neg c3] at h
    refine hr_iconst (v := 0) hC dX21_isAssigning_13 rfl ?_
    obtain rfl := Option.some.inj h
    exact hr_zret hC rfl dX21_isAssigning_14
/-- HomeCompilerModel.stands(I)V -/
def fm_X21_stands_2  (x1 : Int32) (σ : hc_St) : Option (Nat × Int32 × hc_St) := hk (inb x1 (gL σ 23 27)) <| hl (α := Int32) ((if 60 ≤ (((gI σ 23 16)) + ((gC σ 23 27 x1))) then 0 else 1)) fun v4 => Option.bind (fm_X21_need v4 σ) fun r5 => ht r5 <| some (0, 0, r5.2.2)
set_option maxRecDepth 20000 in
set_option maxHeartbeats 4000000 in
theorem okX21_stands_2 (l : Launch) (E : hc_E) (A : Nat → Prop) (d : Nat)  (hD : 14 ≤ d) {x1 : Int32} {σ : hc_St} {r : (Nat × Int32 × hc_St)} (h : fm_X21_stands_2  x1 σ = some r) (am : Nat → Nat → Nat) : hc_M l hc_V0 yX21_stands_2 (ws_ yX21_stands_2 cX21_stands_2 2 none) d E A [.ref (E.2.1 23), .int x1] am [] σ (hc_ot (fun v => none) r) r.2.2 := by
  have hd1 : 1 ≤ d := by omega
  have hd8 : 9 ≤ d := by omega
  have hd12 : 12 ≤ d := by omega
  refine hc_enter2 (own := RX21) [(0, .ref (E.2.1 23)), (1, .int x1)] pl_X21 rfl hc_V0_st hc_G0_nd rfl (Nat.le_of_ble_eq_true rfl) (fun X hC hem => ?_)
  have HX := fun z => hc_CX hC z
  unfold fm_X21_stands_2 at h
  refine hr_aload_n hC dX21_stands_2_0 rfl ?_
  refine hr_aload_n hC dX21_stands_2_1 rfl ?_
  refine hr_gI hC F23_16 dX21_stands_2_2 q2858 ?_
  refine hr_aload_n hC dX21_stands_2_5 rfl ?_
  refine hr_gA hC F23_27 rfl dX21_stands_2_6 q2869 ?_
  refine hr_iload_n hC dX21_stands_2_9 rfl ?_
  obtain ⟨c1, h⟩ := hk_ok h
  refine hs_iald hC A23_27 c1 dX21_stands_2_10 ?_
  refine hr_iadd hC dX21_stands_2_11 ?_
  refine hr_bipush (v := 60) hC dX21_stands_2_12 rfl ?_
  obtain ⟨v4, hv4, h⟩ := hl_ok h
  have J10 : ∀ w11 : Int32, (if 60 ≤ (((gI σ 23 16)) + ((gC σ 23 27 x1))) then 0 else 1) = w11 → hc_At hc_V0 E 2 X 22 [] [.int w11, .ref (E.2.1 23)] σ am [] := by
    intro w11 hw11
    obtain rfl := hv4.trans hw11
    obtain ⟨r5, e6, h⟩ := hx_bind h
    by_cases z9 : r5.1 = 0
    · rw [ht_0 z9] at h
      refine hs_callV0 hC 23 [_] _ dX21_stands_2_22 q3218 q3220 qs192 q335 q3221 np_X21 rfl OB_23 pd_X21_need (Nat.le_of_ble_eq_true rfl) hd1 (hc_M0 (r := r5) (okX21_need l E A (d - 1)  (by omega)  e6 am) z9) rfl ?_
      obtain rfl := Option.some.inj h
      exact hr_vret hC dX21_stands_2_25
    · rw [ht_1 z9] at h
      obtain rfl := Option.some.inj h
      exact hs_callVx (HX z9) hem 23 [_] _ dX21_stands_2_22 q3218 q3220 qs192 q335 q3221 np_X21 rfl OB_23 pd_X21_need (Nat.le_of_ble_eq_true rfl) hd1 (hc_M1 (r := r5) (okX21_need l E A (d - 1)  (by omega)  e6 am) z9) (hc_rb rfl) rfl
  refine hr_icmp_ge (x := _) hC 21 dX21_stands_2_14 (by decide) (fun c12 => ?_) (fun c12 => ?_)
  · refine hr_iconst (v := 0) hC dX21_stands_2_21 rfl ?_
    exact hr_sub _ rfl (J10 _ (by first | (rw [if_pos c12]; done) | (simp only [if_pos c12]; done) | rfl))
  · refine hr_iconst (v := 1) hC dX21_stands_2_17 rfl ?_
    refine hr_goto hC 22 dX21_stands_2_18 (by decide) ?_
    exact hr_sub _ rfl (J10 _ (by first | (rw [if_neg c12]; done) | (simp only [if_neg c12]; done) | rfl))
/-- HomeCompilerModel.deeper(II)I -/
def fm_X21_deeper  (x0 : Int32) (x1 : Int32) (σ : hc_St) : Option Int32 := hl (α := Int32) ((if x0 ≤ x1 then x1 else x0)) fun v3 => some v3
set_option maxRecDepth 20000 in
set_option maxHeartbeats 4000000 in
theorem okX21_deeper (l : Launch) (E : hc_E) (A : Nat → Prop) (d : Nat)  (hD : 1 ≤ d) {x0 : Int32} {x1 : Int32} {σ : hc_St} {r : Int32} (h : fm_X21_deeper  x0 x1 σ = some r) (am : Nat → Nat → Nat) : hc_M l hc_V0 yX21_deeper (ws_ yX21_deeper cX21_deeper 2 (some .int)) d E A [.int x0, .int x1] am [] σ (.inl (some (.int r))) σ := by
  have hd1 : 1 ≤ d := by omega
  refine hc_enter2 (own := RX21) [(0, .int x0), (1, .int x1)] pl_X21 rfl hc_V0_st hc_G0_nd rfl (Nat.le_of_ble_eq_true rfl) (fun X hC hem => ?_)
  unfold fm_X21_deeper at h
  refine hr_iload_n hC dX21_deeper_0 rfl ?_
  refine hr_iload_n hC dX21_deeper_1 rfl ?_
  obtain ⟨v3, hv3, h⟩ := hl_ok h
  have J4 : ∀ w5 : Int32, (if x0 ≤ x1 then x1 else x0) = w5 → hc_At hc_V0 E 2 X 10 [] [.int w5] σ am [] := by
    intro w5 hw5
    obtain rfl := hv3.trans hw5
    obtain rfl := Option.some.inj h
    exact hr_iret hC dX21_deeper_10
  refine hr_icmp_le (x := _) hC 9 dX21_deeper_2 (by decide) (fun c6 => ?_) (fun c6 => ?_)
  · refine hr_iload_n hC dX21_deeper_9 rfl ?_
    exact hr_sub _ rfl (J4 _ (by first | (rw [if_pos c6]; done) | (simp only [if_pos c6]; done) | rfl))
  · refine hr_iload_n hC dX21_deeper_5 rfl ?_
    refine hr_goto hC 10 dX21_deeper_6 (by decide) ?_
    exact hr_sub _ rfl (J4 _ (by first | (rw [if_neg c6]; done) | (simp only [if_neg c6]; done) | rfl))
/-- HomeCompilerModel.take(Ljava/lang/String;)V -/
def fm_X21_take  (x1 : Int32) (σ : hc_St) : Option (Nat × Int32 × hc_St) := Option.bind (fm_X21_takes x1 σ) fun r1 => Option.bind (fm_X21_need r1.1 r1.2) fun r5 => ht r5 <| some (0, 0, r5.2.2)
set_option maxRecDepth 20000 in
set_option maxHeartbeats 4000000 in
theorem okX21_take (l : Launch) (E : hc_E) (A : Nat → Prop) (d : Nat)  (hD : 14 ≤ d) {x1 : Int32} {σ : hc_St} {r : (Nat × Int32 × hc_St)} (h : fm_X21_take  x1 σ = some r) (am : Nat → Nat → Nat) : hc_M l hc_V0 yX21_take (ws_ yX21_take cX21_take 2 none) d E A [.ref (E.2.1 23), .ref (E.2.2.2.1 (x1 : Int32).toNatClampNeg)] am [] σ (hc_ot (fun v => none) r) r.2.2 := by
  have hd1 : 1 ≤ d := by omega
  have hd8 : 9 ≤ d := by omega
  have hd12 : 12 ≤ d := by omega
  refine hc_enter2 (own := RX21) [(0, .ref (E.2.1 23)), (1, .ref (E.2.2.2.1 (x1 : Int32).toNatClampNeg))] pl_X21 rfl hc_V0_st hc_G0_nd rfl (Nat.le_of_ble_eq_true rfl) (fun X hC hem => ?_)
  have HX := fun z => hc_CX hC z
  unfold fm_X21_take at h
  refine hr_aload_n hC dX21_take_0 rfl ?_
  refine hr_aload_n hC dX21_take_1 rfl ?_
  refine hr_aload_n hC dX21_take_2 rfl ?_
  obtain ⟨r1, e2, h⟩ := hx_bind h
  refine hs_callV0 hC 23 [_] _ dX21_take_3 q3231 q3233 qs195 q335 q3234 np_X21 rfl OB_23 pd_X21_takes (Nat.le_of_ble_eq_true rfl) hd1 (okX21_takes l E A (d - 1)  (by omega)  e2 am) rfl ?_
  obtain ⟨r5, e6, h⟩ := hx_bind h
  by_cases z9 : r5.1 = 0
  · rw [ht_0 z9] at h
    refine hs_callV0 hC 23 [_] _ dX21_take_6 q3218 q3220 qs192 q335 q3221 np_X21 rfl OB_23 pd_X21_need (Nat.le_of_ble_eq_true rfl) hd1 (hc_M0 (r := r5) (okX21_need l E A (d - 1)  (by omega)  e6 am) z9) rfl ?_
    obtain rfl := Option.some.inj h
    exact hr_vret hC dX21_take_9
  · rw [ht_1 z9] at h
    obtain rfl := Option.some.inj h
    exact hs_callVx (HX z9) hem 23 [_] _ dX21_take_6 q3218 q3220 qs192 q335 q3221 np_X21 rfl OB_23 pd_X21_need (Nat.le_of_ble_eq_true rfl) hd1 (hc_M1 (r := r5) (okX21_need l E A (d - 1)  (by omega)  e6 am) z9) (hc_rb rfl) rfl
/-- HomeCompilerModel.closes(Ljava/lang/String;)V -/
def fm_X21_closes  (x1 : Int32) (σ : hc_St) : Option (Nat × Int32 × hc_St) := Option.bind (fm_X21_take x1 σ) fun r1 => ht r1 <| hl (pI r1.2.2 23 16 ((((gI r1.2.2 23 16)) - 1))) fun σ6 => some (0, 0, σ6)
set_option maxRecDepth 20000 in
set_option maxHeartbeats 4000000 in
theorem okX21_closes (l : Launch) (E : hc_E) (A : Nat → Prop) (d : Nat)  (hD : 15 ≤ d) {x1 : Int32} {σ : hc_St} {r : (Nat × Int32 × hc_St)} (h : fm_X21_closes  x1 σ = some r) (am : Nat → Nat → Nat) : hc_M l hc_V0 yX21_closes (ws_ yX21_closes cX21_closes 2 none) d E A [.ref (E.2.1 23), .ref (E.2.2.2.1 (x1 : Int32).toNatClampNeg)] am [] σ (hc_ot (fun v => none) r) r.2.2 := by
  have hd1 : 1 ≤ d := by omega
  have hd8 : 9 ≤ d := by omega
  have hd12 : 12 ≤ d := by omega
  refine hc_enter2 (own := RX21) [(0, .ref (E.2.1 23)), (1, .ref (E.2.2.2.1 (x1 : Int32).toNatClampNeg))] pl_X21 rfl hc_V0_st hc_G0_nd rfl (Nat.le_of_ble_eq_true rfl) (fun X hC hem => ?_)
  have HX := fun z => hc_CX hC z
  unfold fm_X21_closes at h
  refine hr_aload_n hC dX21_closes_0 rfl ?_
  refine hr_aload_n hC dX21_closes_1 rfl ?_
  obtain ⟨r1, e2, h⟩ := hx_bind h
  by_cases z5 : r1.1 = 0
  · rw [ht_0 z5] at h
    refine hs_callV0 hC 23 [_] _ dX21_closes_2 q3282 q3284 qs207 q335 q3285 np_X21 rfl OB_23 pd_X21_take (Nat.le_of_ble_eq_true rfl) hd1 (hc_M0 (r := r1) (okX21_take l E A (d - 1)  (by omega)  e2 am) z5) rfl ?_
    refine hr_aload_n hC dX21_closes_5 rfl ?_
    refine hr_dup hC dX21_closes_6 rfl ?_
    refine hr_gI hC F23_16 dX21_closes_7 q2858 ?_
    refine hr_iconst (v := 1) hC dX21_closes_10 rfl ?_
    refine hr_isub hC dX21_closes_11 ?_
    obtain ⟨σ6, hσ6, h⟩ := hl_ok h
    refine hr_pI hC F23_16 PX21_16 dX21_closes_12 q2858 ?_
    rw [← hσ6]
    obtain rfl := Option.some.inj h
    exact hr_vret hC dX21_closes_15
  · rw [ht_1 z5] at h
    obtain rfl := Option.some.inj h
    exact hs_callVx (HX z5) hem 23 [_] _ dX21_closes_2 q3282 q3284 qs207 q335 q3285 np_X21 rfl OB_23 pd_X21_take (Nat.le_of_ble_eq_true rfl) hd1 (hc_M1 (r := r1) (okX21_take l E A (d - 1)  (by omega)  e2 am) z5) (hc_rb rfl) rfl
/-- HomeCompilerModel.isNothing(I)Z -/
def fm_X21_isNothing  (x1 : Int32) (σ : hc_St) : Option Int32 := hk (inb x1 (gL σ 23 12)) <| Option.bind (α := Int32) (if (gC σ 23 12 x1) = 1 then (hk (inb x1 (gL σ 23 11)) <| hk (inb ((gC σ 23 11 x1)) (gL σ 23 7)) <| if (gC σ 23 7 ((gC σ 23 11 x1))).toInt8.toInt32 = 43 then (some (1)) else (some (0))) else (some (0))) fun r4 => hk (hb01 r4) <| some r4
set_option maxRecDepth 20000 in
set_option maxHeartbeats 4000000 in
theorem okX21_isNothing (l : Launch) (E : hc_E) (A : Nat → Prop) (d : Nat)  (hD : 1 ≤ d) {x1 : Int32} {σ : hc_St} {r : Int32} (h : fm_X21_isNothing  x1 σ = some r) (am : Nat → Nat → Nat) : hc_M l hc_V0 yX21_isNothing (ws_ yX21_isNothing cX21_isNothing 2 (some .boolean)) d E A [.ref (E.2.1 23), .int x1] am [] σ (.inl (some (.int r))) σ := by
  have hd1 : 1 ≤ d := by omega
  refine hc_enter2 (own := RX21) [(0, .ref (E.2.1 23)), (1, .int x1)] pl_X21 rfl hc_V0_st hc_G0_nd rfl (Nat.le_of_ble_eq_true rfl) (fun X hC hem => ?_)
  unfold fm_X21_isNothing at h
  refine hr_aload_n hC dX21_isNothing_0 rfl ?_
  refine hr_gA hC F23_12 rfl dX21_isNothing_1 q2854 ?_
  refine hr_iload_n hC dX21_isNothing_4 rfl ?_
  obtain ⟨c1, h⟩ := hk_ok h
  refine hs_iald hC A23_12 c1 dX21_isNothing_5 ?_
  refine hr_iconst (v := 1) hC dX21_isNothing_6 rfl ?_
  obtain ⟨r4, e5, h⟩ := hx_bind h
  have J6 : hc_At hc_V0 E 2 X 31 [] [.int r4] σ am [] := by
    obtain ⟨c12, h⟩ := hk_ok h
    obtain rfl := Option.some.inj h
    exact hr_zret hC (hb01_n c12) dX21_isNothing_31
  clear h
  have h := e5
  refine hr_icmp_ne (x := _) hC 30 dX21_isNothing_7 (by decide) (fun c3 => ?_) (fun c3 => ?_)
  · rw [if_neg c3] at h
    refine hr_iconst (v := 0) hC dX21_isNothing_30 rfl ?_
    obtain rfl := Option.some.inj h
    exact hr_sub _ rfl (J6)
  · rw [if_pos c3] at h
    refine hr_aload_n hC dX21_isNothing_10 rfl ?_
    refine hr_gA hC F23_7 rfl dX21_isNothing_11 q2849 ?_
    refine hr_aload_n hC dX21_isNothing_14 rfl ?_
    refine hr_gA hC F23_11 rfl dX21_isNothing_15 q2853 ?_
    refine hr_iload_n hC dX21_isNothing_18 rfl ?_
    obtain ⟨c8, h⟩ := hk_ok h
    refine hs_iald hC A23_11 c8 dX21_isNothing_19 ?_
    obtain ⟨c9, h⟩ := hk_ok h
    refine hs_bald hC A23_7 c9 dX21_isNothing_20 ?_
    refine hr_bipush (v := 43) hC dX21_isNothing_21 rfl ?_
    refine hr_icmp_ne (x := _) hC 30 dX21_isNothing_23 (by decide) (fun c11 => ?_) (fun c11 => ?_)
    · rw [if_neg c11] at h
      refine hr_iconst (v := 0) hC dX21_isNothing_30 rfl ?_
      obtain rfl := Option.some.inj h
      exact hr_sub _ rfl (J6)
    · rw [if_pos c11] at h
      refine hr_iconst (v := 1) hC dX21_isNothing_26 rfl ?_
      refine hr_goto hC 31 dX21_isNothing_27 (by decide) ?_
      obtain rfl := Option.some.inj h
      exact hr_sub _ rfl (J6)
/-- HomeCompilerModel.rank(I)I -/
def fm_X21_rank  (x1 : Int32) (σ : hc_St) : Option Int32 := hk (inb x1 (gL σ 23 13)) <| if (gC σ 23 13 x1).toInt8.toInt32 = 5 then (hk (inb x1 (gL σ 23 14)) <| hk (inb ((gC σ 23 14 x1)) (gL σ 23 1)) <| hk (hsi ((gC σ 23 1 ((gC σ 23 14 x1))))) <| if (sLen ((gC σ 23 1 ((gC σ 23 14 x1))))) = 2 then (hk (hsi ((gC σ 23 1 ((gC σ 23 14 x1)))) && hsi 64) <| Option.bind (α := Int32) (if (sEq ((gC σ 23 1 ((gC σ 23 14 x1)))) 64) = 0 then (hk (hsi ((gC σ 23 1 ((gC σ 23 14 x1)))) && hsi 65) <| if (sEq ((gC σ 23 1 ((gC σ 23 14 x1)))) 65) = 0 then (hk (hsi ((gC σ 23 1 ((gC σ 23 14 x1)))) && hsi 66) <| if (sEq ((gC σ 23 1 ((gC σ 23 14 x1)))) 66) = 0 then (hk (hsi ((gC σ 23 1 ((gC σ 23 14 x1)))) && hsi 67) <| if (sEq ((gC σ 23 1 ((gC σ 23 14 x1)))) 67) = 0 then (hk (hsi ((gC σ 23 1 ((gC σ 23 14 x1)))) && hsi 68) <| if (sEq ((gC σ 23 1 ((gC σ 23 14 x1)))) 68) = 0 then (hk (hsi ((gC σ 23 1 ((gC σ 23 14 x1)))) && hsi 69) <| if (sEq ((gC σ 23 1 ((gC σ 23 14 x1)))) 69) = 0 then (hk (hsi ((gC σ 23 1 ((gC σ 23 14 x1)))) && hsi 70) <| if (sEq ((gC σ 23 1 ((gC σ 23 14 x1)))) 70) = 0 then (hk (hsi ((gC σ 23 1 ((gC σ 23 14 x1)))) && hsi 71) <| if (sEq ((gC σ 23 1 ((gC σ 23 14 x1)))) 71) = 0 then (some (0)) else (some (8))) else (some (8))) else (some (7))) else (some (7))) else (some (6))) else (some (6))) else (some (2))) else (some (1))) fun r31 => some r31) else (hk (hsi ((gC σ 23 1 ((gC σ 23 14 x1))))) <| if (sLen ((gC σ 23 1 ((gC σ 23 14 x1))))) = 1 then (hk (hsc ((gC σ 23 1 ((gC σ 23 14 x1)))) 0) <| hl (α := Int32) ((if (sCh ((gC σ 23 1 ((gC σ 23 14 x1)))) 0) = 124 then 3 else (if (sCh ((gC σ 23 1 ((gC σ 23 14 x1)))) 0) = 94 then 4 else (if (sCh ((gC σ 23 1 ((gC σ 23 14 x1)))) 0) = 38 then 5 else (if (sCh ((gC σ 23 1 ((gC σ 23 14 x1)))) 0) = 60 then 7 else (if (sCh ((gC σ 23 1 ((gC σ 23 14 x1)))) 0) = 62 then 7 else (if (sCh ((gC σ 23 1 ((gC σ 23 14 x1)))) 0) = 43 then 9 else (if (sCh ((gC σ 23 1 ((gC σ 23 14 x1)))) 0) = 45 then 9 else (if (sCh ((gC σ 23 1 ((gC σ 23 14 x1)))) 0) = 42 then 10 else (if (sCh ((gC σ 23 1 ((gC σ 23 14 x1)))) 0) = 47 then 10 else (if (sCh ((gC σ 23 1 ((gC σ 23 14 x1)))) 0) = 37 then 10 else 0))))))))))) fun v15 => some v15) else (some 0))) else (some 0)
set_option maxRecDepth 20000 in
set_option maxHeartbeats 4000000 in
theorem okX21_rank (l : Launch) (E : hc_E) (A : Nat → Prop) (d : Nat)  (hD : 9 ≤ d) {x1 : Int32} {σ : hc_St} {r : Int32} (h : fm_X21_rank  x1 σ = some r) (am : Nat → Nat → Nat) : hc_M l hc_V0 yX21_rank (ws_ yX21_rank cX21_rank 4 (some .int)) d E A [.ref (E.2.1 23), .int x1] am [] σ (.inl (some (.int r))) σ := by
  have hd1 : 1 ≤ d := by omega
  have hd8 : 9 ≤ d := by omega
  refine hc_enter2 (own := RX21) [(0, .ref (E.2.1 23)), (1, .int x1)] pl_X21 rfl hc_V0_st hc_G0_nd rfl (Nat.le_of_ble_eq_true rfl) (fun X hC hem => ?_)
  unfold fm_X21_rank at h
  refine hr_aload_n hC dX21_rank_0 rfl ?_
  refine hr_gA hC F23_13 rfl dX21_rank_1 q2855 ?_
  refine hr_iload_n hC dX21_rank_4 rfl ?_
  obtain ⟨c1, h⟩ := hk_ok h
  refine hs_bald hC A23_13 c1 dX21_rank_5 ?_
  refine hr_iconst (v := 5) hC dX21_rank_6 rfl ?_
  refine hr_icmp_eq (x := _) hC 12 dX21_rank_7 (by decide) (fun c3 => ?_) (fun c3 => ?_)
  · rw [if_pos c3] at h
    refine hr_aload_n hC dX21_rank_12 rfl ?_
    refine hr_gA hC F23_1 rfl dX21_rank_13 q2843 ?_
    refine hr_aload_n hC dX21_rank_16 rfl ?_
    refine hr_gA hC F23_14 rfl dX21_rank_17 q2856 ?_
    refine hr_iload_n hC dX21_rank_20 rfl ?_
    obtain ⟨c4, h⟩ := hk_ok h
    refine hs_iald hC A23_14 c4 dX21_rank_21 ?_
    obtain ⟨c5, h⟩ := hk_ok h
    refine hs_sald hC A23_1 c5 dX21_rank_22 ?_
    refine hr_astore_n hC dX21_rank_23 (by decide) ?_
    refine hr_aload_n hC dX21_rank_24 rfl ?_
    obtain ⟨c6, h⟩ := hk_ok h
    refine hr_slen hC c6 dX21_rank_25 q3145 hd8 (Nat.le_of_ble_eq_true rfl) ?_
    refine hr_iconst (v := 2) hC dX21_rank_28 rfl ?_
    refine hr_icmp_ne (x := _) hC 129 dX21_rank_29 (by decide) (fun c8 => ?_) (fun c8 => ?_)
    · rw [if_neg c8] at h
      refine hr_aload_n hC dX21_rank_129 rfl ?_
      obtain ⟨c9, h⟩ := hk_ok h
      refine hr_slen hC c9 dX21_rank_130 q3145 hd8 (Nat.le_of_ble_eq_true rfl) ?_
      refine hr_iconst (v := 1) hC dX21_rank_133 rfl ?_
      refine hr_icmp_eq (x := _) hC 139 dX21_rank_134 (by decide) (fun c11 => ?_) (fun c11 => ?_)
      · rw [if_pos c11] at h
        refine hr_aload_n hC dX21_rank_139 rfl ?_
        refine hr_iconst (v := 0) hC dX21_rank_140 rfl ?_
        obtain ⟨c12, h⟩ := hk_ok h
        refine hr_schar hC c12 dX21_rank_141 q3150 hd8 (Nat.le_of_ble_eq_true rfl) ?_
        refine hr_istore_n hC dX21_rank_144 (by decide) ?_
        refine hr_iload_n hC dX21_rank_145 rfl ?_
        refine hr_bipush (v := 124) hC dX21_rank_146 rfl ?_
        obtain ⟨v15, hv15, h⟩ := hl_ok h
        have J16 : ∀ w17 : Int32, (if (sCh ((gC σ 23 1 ((gC σ 23 14 x1)))) 0) = 124 then 3 else (if (sCh ((gC σ 23 1 ((gC σ 23 14 x1)))) 0) = 94 then 4 else (if (sCh ((gC σ 23 1 ((gC σ 23 14 x1)))) 0) = 38 then 5 else (if (sCh ((gC σ 23 1 ((gC σ 23 14 x1)))) 0) = 60 then 7 else (if (sCh ((gC σ 23 1 ((gC σ 23 14 x1)))) 0) = 62 then 7 else (if (sCh ((gC σ 23 1 ((gC σ 23 14 x1)))) 0) = 43 then 9 else (if (sCh ((gC σ 23 1 ((gC σ 23 14 x1)))) 0) = 45 then 9 else (if (sCh ((gC σ 23 1 ((gC σ 23 14 x1)))) 0) = 42 then 10 else (if (sCh ((gC σ 23 1 ((gC σ 23 14 x1)))) 0) = 47 then 10 else (if (sCh ((gC σ 23 1 ((gC σ 23 14 x1)))) 0) = 37 then 10 else 0)))))))))) = w17 → hc_At hc_V0 E 4 X 233 [] [.int w17] σ am [] := by
          intro w17 hw17
          obtain rfl := hv15.trans hw17
          obtain rfl := Option.some.inj h
          exact hr_iret hC dX21_rank_233
        refine hr_icmp_ne (x := _) hC 155 dX21_rank_148 (by decide) (fun c18 => ?_) (fun c18 => ?_)
        · refine hr_iload_n hC dX21_rank_155 rfl ?_
          refine hr_bipush (v := 94) hC dX21_rank_156 rfl ?_
          refine hr_icmp_ne (x := _) hC 165 dX21_rank_158 (by decide) (fun c19 => ?_) (fun c19 => ?_)
          · refine hr_iload_n hC dX21_rank_165 rfl ?_
            refine hr_bipush (v := 38) hC dX21_rank_166 rfl ?_
            refine hr_icmp_ne (x := _) hC 175 dX21_rank_168 (by decide) (fun c20 => ?_) (fun c20 => ?_)
            · refine hr_iload_n hC dX21_rank_175 rfl ?_
              refine hr_bipush (v := 60) hC dX21_rank_176 rfl ?_
              refine hr_icmp_eq (x := _) hC 187 dX21_rank_178 (by decide) (fun c21 => ?_) (fun c21 => ?_)
              · refine hr_bipush (v := 7) hC dX21_rank_187 rfl ?_
                refine hr_goto hC 233 dX21_rank_189 (by decide) ?_
                exact hr_sub _ rfl (J16 _ (by first | (rw [if_neg c18, if_neg c19, if_neg c20, if_pos c21]; done) | (simp only [if_neg c18, if_neg c19, if_neg c20, if_pos c21]; done) | rfl))
              · refine hr_iload_n hC dX21_rank_181 rfl ?_
                refine hr_bipush (v := 62) hC dX21_rank_182 rfl ?_
                refine hr_icmp_ne (x := _) hC 192 dX21_rank_184 (by decide) (fun c22 => ?_) (fun c22 => ?_)
                · refine hr_iload_n hC dX21_rank_192 rfl ?_
                  refine hr_bipush (v := 43) hC dX21_rank_193 rfl ?_
                  refine hr_icmp_eq (x := _) hC 204 dX21_rank_195 (by decide) (fun c23 => ?_) (fun c23 => ?_)
                  · refine hr_bipush (v := 9) hC dX21_rank_204 rfl ?_
                    refine hr_goto hC 233 dX21_rank_206 (by decide) ?_
                    exact hr_sub _ rfl (J16 _ (by first | (rw [if_neg c18, if_neg c19, if_neg c20, if_neg c21, if_neg c22, if_pos c23]; done) | (simp only [if_neg c18, if_neg c19, if_neg c20, if_neg c21, if_neg c22, if_pos c23]; done) | rfl))
                  · refine hr_iload_n hC dX21_rank_198 rfl ?_
                    refine hr_bipush (v := 45) hC dX21_rank_199 rfl ?_
                    refine hr_icmp_ne (x := _) hC 209 dX21_rank_201 (by decide) (fun c24 => ?_) (fun c24 => ?_)
                    · refine hr_iload_n hC dX21_rank_209 rfl ?_
                      refine hr_bipush (v := 42) hC dX21_rank_210 rfl ?_
                      refine hr_icmp_eq (x := _) hC 227 dX21_rank_212 (by decide) (fun c25 => ?_) (fun c25 => ?_)
                      · refine hr_bipush (v := 10) hC dX21_rank_227 rfl ?_
                        refine hr_goto hC 233 dX21_rank_229 (by decide) ?_
                        exact hr_sub _ rfl (J16 _ (by first | (rw [if_neg c18, if_neg c19, if_neg c20, if_neg c21, if_neg c22, if_neg c23, if_neg c24, if_pos c25]; done) | (simp only [if_neg c18, if_neg c19, if_neg c20, if_neg c21, if_neg c22, if_neg c23, if_neg c24, if_pos c25]; done) | rfl))
                      · refine hr_iload_n hC dX21_rank_215 rfl ?_
                        refine hr_bipush (v := 47) hC dX21_rank_216 rfl ?_
                        refine hr_icmp_eq (x := _) hC 227 dX21_rank_218 (by decide) (fun c26 => ?_) (fun c26 => ?_)
                        · refine hr_bipush (v := 10) hC dX21_rank_227 rfl ?_
                          refine hr_goto hC 233 dX21_rank_229 (by decide) ?_
                          exact hr_sub _ rfl (J16 _ (by first | (rw [if_neg c18, if_neg c19, if_neg c20, if_neg c21, if_neg c22, if_neg c23, if_neg c24, if_neg c25, if_pos c26]; done) | (simp only [if_neg c18, if_neg c19, if_neg c20, if_neg c21, if_neg c22, if_neg c23, if_neg c24, if_neg c25, if_pos c26]; done) | rfl))
                        · refine hr_iload_n hC dX21_rank_221 rfl ?_
                          refine hr_bipush (v := 37) hC dX21_rank_222 rfl ?_
                          refine hr_icmp_ne (x := _) hC 232 dX21_rank_224 (by decide) (fun c27 => ?_) (fun c27 => ?_)
                          · refine hr_iconst (v := 0) hC dX21_rank_232 rfl ?_
                            exact hr_sub _ rfl (J16 _ (by first | (rw [if_neg c18, if_neg c19, if_neg c20, if_neg c21, if_neg c22, if_neg c23, if_neg c24, if_neg c25, if_neg c26, if_neg c27]; done) | (simp only [if_neg c18, if_neg c19, if_neg c20, if_neg c21, if_neg c22, if_neg c23, if_neg c24, if_neg c25, if_neg c26, if_neg c27]; done) | rfl))
                          · refine hr_bipush (v := 10) hC dX21_rank_227 rfl ?_
                            refine hr_goto hC 233 dX21_rank_229 (by decide) ?_
                            exact hr_sub _ rfl (J16 _ (by first | (rw [if_neg c18, if_neg c19, if_neg c20, if_neg c21, if_neg c22, if_neg c23, if_neg c24, if_neg c25, if_neg c26, if_pos c27]; done) | (simp only [if_neg c18, if_neg c19, if_neg c20, if_neg c21, if_neg c22, if_neg c23, if_neg c24, if_neg c25, if_neg c26, if_pos c27]; done) | rfl))
                    · refine hr_bipush (v := 9) hC dX21_rank_204 rfl ?_
                      refine hr_goto hC 233 dX21_rank_206 (by decide) ?_
                      exact hr_sub _ rfl (J16 _ (by first | (rw [if_neg c18, if_neg c19, if_neg c20, if_neg c21, if_neg c22, if_neg c23, if_pos c24]; done) | (simp only [if_neg c18, if_neg c19, if_neg c20, if_neg c21, if_neg c22, if_neg c23, if_pos c24]; done) | rfl))
                · refine hr_bipush (v := 7) hC dX21_rank_187 rfl ?_
                  refine hr_goto hC 233 dX21_rank_189 (by decide) ?_
                  exact hr_sub _ rfl (J16 _ (by first | (rw [if_neg c18, if_neg c19, if_neg c20, if_neg c21, if_pos c22]; done) | (simp only [if_neg c18, if_neg c19, if_neg c20, if_neg c21, if_pos c22]; done) | rfl))
            · refine hr_iconst (v := 5) hC dX21_rank_171 rfl ?_
              refine hr_goto hC 233 dX21_rank_172 (by decide) ?_
              exact hr_sub _ rfl (J16 _ (by first | (rw [if_neg c18, if_neg c19, if_pos c20]; done) | (simp only [if_neg c18, if_neg c19, if_pos c20]; done) | rfl))
          · refine hr_iconst (v := 4) hC dX21_rank_161 rfl ?_
            refine hr_goto hC 233 dX21_rank_162 (by decide) ?_
            exact hr_sub _ rfl (J16 _ (by first | (rw [if_neg c18, if_pos c19]; done) | (simp only [if_neg c18, if_pos c19]; done) | rfl))
        · refine hr_iconst (v := 3) hC dX21_rank_151 rfl ?_
          refine hr_goto hC 233 dX21_rank_152 (by decide) ?_
          exact hr_sub _ rfl (J16 _ (by first | (rw [if_pos c18]; done) | (simp only [if_pos c18]; done) | rfl))
      · rw [if_neg c11] at h
        refine hr_iconst (v := 0) hC dX21_rank_137 rfl ?_
        obtain rfl := Option.some.inj h
        exact hr_iret hC dX21_rank_138
    · rw [if_pos c8] at h
      refine hr_aload_n hC dX21_rank_32 rfl ?_
      refine hr_ldcs (v := 64) 64 hC dX21_rank_33 (List.mem_of_getElem? (i := 64) rfl) (by decide) rfl ?_
      obtain ⟨c28, h⟩ := hk_ok h
      refine hr_seq hC c28 dX21_rank_35 q3210 hd8 (Nat.le_of_ble_eq_true rfl) ?_
      obtain ⟨r31, e32, h⟩ := hx_bind h
      have J33 : hc_At hc_V0 E 4 X 128 [] [.int r31] σ am [] := by
        obtain rfl := Option.some.inj h
        exact hr_iret hC dX21_rank_128
      clear h
      have h := e32
      refine hr_if_eq (x := _) hC 45 dX21_rank_38 (by decide) (fun c30 => ?_) (fun c30 => ?_)
      · rw [if_pos c30] at h
        refine hr_aload_n hC dX21_rank_45 rfl ?_
        refine hr_ldcs (v := 65) 65 hC dX21_rank_46 (List.mem_of_getElem? (i := 65) rfl) (by decide) rfl ?_
        obtain ⟨c35, h⟩ := hk_ok h
        refine hr_seq hC c35 dX21_rank_48 q3210 hd8 (Nat.le_of_ble_eq_true rfl) ?_
        refine hr_if_eq (x := _) hC 58 dX21_rank_51 (by decide) (fun c37 => ?_) (fun c37 => ?_)
        · rw [if_pos c37] at h
          refine hr_aload_n hC dX21_rank_58 rfl ?_
          refine hr_ldcs (v := 66) 66 hC dX21_rank_59 (List.mem_of_getElem? (i := 66) rfl) (by decide) rfl ?_
          obtain ⟨c38, h⟩ := hk_ok h
          refine hr_seq hC c38 dX21_rank_61 q3210 hd8 (Nat.le_of_ble_eq_true rfl) ?_
          refine hr_if_ne (x := _) hC 76 dX21_rank_64 (by decide) (fun c40 => ?_) (fun c40 => ?_)
          · rw [if_neg c40] at h
            refine hr_bipush (v := 6) hC dX21_rank_76 rfl ?_
            refine hr_goto hC 128 dX21_rank_78 (by decide) ?_
            obtain rfl := Option.some.inj h
            exact hr_sub _ rfl (J33)
          · rw [if_pos c40] at h
            refine hr_aload_n hC dX21_rank_67 rfl ?_
            refine hr_ldcs (v := 67) 67 hC dX21_rank_68 (List.mem_of_getElem? (i := 67) rfl) (by decide) rfl ?_
            obtain ⟨c41, h⟩ := hk_ok h
            refine hr_seq hC c41 dX21_rank_70 q3210 hd8 (Nat.le_of_ble_eq_true rfl) ?_
            refine hr_if_eq (x := _) hC 81 dX21_rank_73 (by decide) (fun c43 => ?_) (fun c43 => ?_)
            · rw [if_pos c43] at h
              refine hr_aload_n hC dX21_rank_81 rfl ?_
              refine hr_ldcs (v := 68) 68 hC dX21_rank_82 (List.mem_of_getElem? (i := 68) rfl) (by decide) rfl ?_
              obtain ⟨c44, h⟩ := hk_ok h
              refine hr_seq hC c44 dX21_rank_84 q3210 hd8 (Nat.le_of_ble_eq_true rfl) ?_
              refine hr_if_ne (x := _) hC 99 dX21_rank_87 (by decide) (fun c46 => ?_) (fun c46 => ?_)
              · rw [if_neg c46] at h
                refine hr_bipush (v := 7) hC dX21_rank_99 rfl ?_
                refine hr_goto hC 128 dX21_rank_101 (by decide) ?_
                obtain rfl := Option.some.inj h
                exact hr_sub _ rfl (J33)
              · rw [if_pos c46] at h
                refine hr_aload_n hC dX21_rank_90 rfl ?_
                refine hr_ldcs (v := 69) 69 hC dX21_rank_91 (List.mem_of_getElem? (i := 69) rfl) (by decide) rfl ?_
                obtain ⟨c47, h⟩ := hk_ok h
                refine hr_seq hC c47 dX21_rank_93 q3210 hd8 (Nat.le_of_ble_eq_true rfl) ?_
                refine hr_if_eq (x := _) hC 104 dX21_rank_96 (by decide) (fun c49 => ?_) (fun c49 => ?_)
                · rw [if_pos c49] at h
                  refine hr_aload_n hC dX21_rank_104 rfl ?_
                  refine hr_ldcs (v := 70) 70 hC dX21_rank_105 (List.mem_of_getElem? (i := 70) rfl) (by decide) rfl ?_
                  obtain ⟨c50, h⟩ := hk_ok h
                  refine hr_seq hC c50 dX21_rank_107 q3210 hd8 (Nat.le_of_ble_eq_true rfl) ?_
                  refine hr_if_ne (x := _) hC 122 dX21_rank_110 (by decide) (fun c52 => ?_) (fun c52 => ?_)
                  · rw [if_neg c52] at h
                    refine hr_bipush (v := 8) hC dX21_rank_122 rfl ?_
                    refine hr_goto hC 128 dX21_rank_124 (by decide) ?_
                    obtain rfl := Option.some.inj h
                    exact hr_sub _ rfl (J33)
                  · rw [if_pos c52] at h
                    refine hr_aload_n hC dX21_rank_113 rfl ?_
                    refine hr_ldcs (v := 71) 71 hC dX21_rank_114 (List.mem_of_getElem? (i := 71) rfl) (by decide) rfl ?_
                    obtain ⟨c53, h⟩ := hk_ok h
                    refine hr_seq hC c53 dX21_rank_116 q3210 hd8 (Nat.le_of_ble_eq_true rfl) ?_
                    refine hr_if_eq (x := _) hC 127 dX21_rank_119 (by decide) (fun c55 => ?_) (fun c55 => ?_)
                    · rw [if_pos c55] at h
                      refine hr_iconst (v := 0) hC dX21_rank_127 rfl ?_
                      obtain rfl := Option.some.inj h
                      exact hr_sub _ rfl (J33)
                    · rw [if_neg c55] at h
                      refine hr_bipush (v := 8) hC dX21_rank_122 rfl ?_
                      refine hr_goto hC 128 dX21_rank_124 (by decide) ?_
                      obtain rfl := Option.some.inj h
                      exact hr_sub _ rfl (J33)
                · rw [if_neg c49] at h
                  refine hr_bipush (v := 7) hC dX21_rank_99 rfl ?_
                  refine hr_goto hC 128 dX21_rank_101 (by decide) ?_
                  obtain rfl := Option.some.inj h
                  exact hr_sub _ rfl (J33)
            · rw [if_neg c43] at h
              refine hr_bipush (v := 6) hC dX21_rank_76 rfl ?_
              refine hr_goto hC 128 dX21_rank_78 (by decide) ?_
              obtain rfl := Option.some.inj h
              exact hr_sub _ rfl (J33)
        · rw [if_neg c37] at h
          refine hr_iconst (v := 2) hC dX21_rank_54 rfl ?_
          refine hr_goto hC 128 dX21_rank_55 (by decide) ?_
          obtain rfl := Option.some.inj h
          exact hr_sub _ rfl (J33)
      · rw [if_neg c30] at h
        refine hr_iconst (v := 1) hC dX21_rank_41 rfl ?_
        refine hr_goto hC 128 dX21_rank_42 (by decide) ?_
        obtain rfl := Option.some.inj h
        exact hr_sub _ rfl (J33)
  · rw [if_neg c3] at h
    refine hr_iconst (v := 0) hC dX21_rank_10 rfl ?_
    obtain rfl := Option.some.inj h
    exact hr_iret hC dX21_rank_11
def lp_X21_settle_43 (n : Nat) : Nat → Int32 → Int32 → Int32 → Int32 → hc_St → Option (Int32)
  | 0, _, _, _, _, _ => none
  | m + 1, y1, y2, y3, y4, σ => hk (inb y4 (gL σ 23 18)) <| if (gC σ 23 18 y4).toInt8.toInt32 = 5 then (hk (inb y4 (gL σ 23 19)) <| Option.bind (fm_X21_isNothing ((gC σ 23 19 y4)) σ) fun r9 => if r9 = 0 then (some (y4)) else (hk (inb y4 (gL σ 23 21)) <| lp_X21_settle_43 n m y1 y2 y3 ((gC σ 23 21 y4)) σ)) else (some (y4))
/-- HomeCompilerModel.settle(I)I -/
def fm_X21_settle (n : Nat) (x1 : Int32) (σ : hc_St) : Option (Int32 × hc_St) := hl (pI σ 23 30 ((((gI σ 23 30)) - 1))) fun σ1 => hl (pI σ1 23 16 ((((gI σ1 23 16)) - 1))) fun σ2 => hk (inb ((gI σ2 23 30)) (gL σ2 23 33)) <| hk (inb ((gI σ2 23 30)) (gL σ2 23 31)) <| Option.bind (lp_X21_settle_43 n n x1 ((gC σ2 23 33 ((gI σ2 23 30)))) ((gC σ2 23 31 ((gI σ2 23 30)))) ((gC σ2 23 33 ((gI σ2 23 30)))) σ2) fun r16 => hk (inb r16 (gL σ2 23 18)) <| Option.bind (α := Int32) (if (gC σ2 23 18 r16).toInt8.toInt32 = 7 then (hk (inb r16 (gL σ2 23 26)) <| if (gC σ2 23 26 r16) = (gC σ2 23 31 ((gI σ2 23 30))) then (hk (inb ((gC σ2 23 33 ((gI σ2 23 30)))) (gL σ2 23 20)) <| some ((gC σ2 23 20 ((gC σ2 23 33 ((gI σ2 23 30))))))) else (hk (inb r16 (gL σ2 23 20)) <| some ((gC σ2 23 20 r16)))) else (hk (inb r16 (gL σ2 23 20)) <| some ((gC σ2 23 20 r16)))) fun r24 => hk (inb r16 (gL σ2 23 20)) <| hl (pC σ2 23 20 r16 r24) fun σ35 => hk (inb r16 (gL σ35 23 18)) <| Option.bind (α := hc_St × Int32) (if (gC σ35 23 18 r16).toInt8.toInt32 = 7 then (hk (inb r16 (gL σ35 23 26)) <| if (gC σ35 23 26 r16) = (gC σ2 23 31 ((gI σ2 23 30))) then (some (σ35, r16)) else (hk (inb ((gI σ35 23 30)) (gL σ35 23 32)) <| Option.bind (fm_X21_make 7 ((gC σ35 23 32 ((gI σ35 23 30)))) σ35) fun r64 => hk (inb ((gC σ2 23 33 ((gI σ2 23 30)))) (gL r64.2 23 20)) <| hk (inb r64.1 (gL r64.2 23 20)) <| hl (pC r64.2 23 20 r64.1 ((gC r64.2 23 20 ((gC σ2 23 33 ((gI σ2 23 30))))))) fun σ70 => hk (inb r64.1 (gL σ70 23 26)) <| hl (pC σ70 23 26 r64.1 ((gC σ2 23 31 ((gI σ2 23 30))))) fun σ72 => hk (inb r64.1 (gL σ72 23 21)) <| hl (pC σ72 23 21 r64.1 ((gC σ2 23 33 ((gI σ2 23 30))))) fun σ74 => hk (inb r64.1 (gL σ74 23 22)) <| hl (pC σ74 23 22 r64.1 ((gC σ2 23 33 ((gI σ2 23 30))))) fun σ76 => hk (inb ((gC σ2 23 33 ((gI σ2 23 30)))) (gL σ76 23 27)) <| hk (inb r64.1 (gL σ76 23 27)) <| hl (pC σ76 23 27 r64.1 ((1 + ((gC σ76 23 27 ((gC σ2 23 33 ((gI σ2 23 30))))))))) fun σ79 => some (σ79, r64.1))) else (hk (inb ((gI σ35 23 30)) (gL σ35 23 32)) <| Option.bind (fm_X21_make 7 ((gC σ35 23 32 ((gI σ35 23 30)))) σ35) fun r44 => hk (inb ((gC σ2 23 33 ((gI σ2 23 30)))) (gL r44.2 23 20)) <| hk (inb r44.1 (gL r44.2 23 20)) <| hl (pC r44.2 23 20 r44.1 ((gC r44.2 23 20 ((gC σ2 23 33 ((gI σ2 23 30))))))) fun σ50 => hk (inb r44.1 (gL σ50 23 26)) <| hl (pC σ50 23 26 r44.1 ((gC σ2 23 31 ((gI σ2 23 30))))) fun σ52 => hk (inb r44.1 (gL σ52 23 21)) <| hl (pC σ52 23 21 r44.1 ((gC σ2 23 33 ((gI σ2 23 30))))) fun σ54 => hk (inb r44.1 (gL σ54 23 22)) <| hl (pC σ54 23 22 r44.1 ((gC σ2 23 33 ((gI σ2 23 30))))) fun σ56 => hk (inb ((gC σ2 23 33 ((gI σ2 23 30)))) (gL σ56 23 27)) <| hk (inb r44.1 (gL σ56 23 27)) <| hl (pC σ56 23 27 r44.1 ((1 + ((gC σ56 23 27 ((gC σ2 23 33 ((gI σ2 23 30))))))))) fun σ59 => some (σ59, r44.1))) fun r39 => hk (inb r39.2 (gL r39.1 23 27)) <| hk (inb x1 (gL r39.1 23 27)) <| Option.bind (fm_X21_deeper ((gC r39.1 23 27 r39.2)) ((1 + ((gC r39.1 23 27 x1)))) r39.1) fun r82 => hk (inb r39.2 (gL r39.1 23 27)) <| hl (pC r39.1 23 27 r39.2 r82) fun σ87 => hk (inb r39.2 (gL σ87 23 22)) <| hk (inb ((gC σ87 23 22 r39.2)) (gL σ87 23 25)) <| hl (pC σ87 23 25 ((gC σ87 23 22 r39.2)) x1) fun σ90 => hk (inb r39.2 (gL σ90 23 22)) <| hl (pC σ90 23 22 r39.2 x1) fun σ92 => hk (inb ((gI σ92 23 30)) (gL σ92 23 32)) <| hk (inb x1 (gL σ92 23 24)) <| hl (pC σ92 23 24 x1 ((gC σ92 23 32 ((gI σ92 23 30))))) fun σ95 => some (r39.2, σ95)
set_option maxRecDepth 20000 in
set_option maxHeartbeats 4000000 in
theorem ll_X21_settle_43 {l : Launch} {E : hc_E} {A : Nat → Prop} {am : Nat → Nat → Nat} {d : Nat} {X : hc_X} (n : Nat) (hD : 2 ≤ d) (hem : X.2.2.2.2.2.2.2.2.2.1.exceptionTable.isEmpty = true) {oc : hc_Oc} {σe : hc_St} (hC : hc_C hc_V0 E cX21_settle 5 RX21 (some .int) d oc σe (l, A, am, []) X) : ∀ (m : Nat) (σ : hc_St) (y1 : Int32) (y2 : Int32) (y3 : Int32) (y4 : Int32) (rl : Int32) (am1 : Nat → Nat → Nat), lp_X21_settle_43 n m y1 y2 y3 y4 σ = some rl → (hc_At hc_V0 E 5 X 80 [(0, .ref (E.2.1 23)), (1, .int y1), (2, .int y2), (3, .int y3), (4, .int rl)] [] σ am1 []) → hc_At hc_V0 E 5 X 43 [(0, .ref (E.2.1 23)), (1, .int y1), (2, .int y2), (3, .int y3), (4, .int y4)] [] σ am1 [] := by
  have hd1 : 1 ≤ d := by omega
  intro m
  induction m with
  | zero =>
    intro σ y1 y2 y3 y4 rl am1 h
    cases h
  | succ m ih =>
    intro σ y1 y2 y3 y4 rl am1 h JX
    rw [lp_X21_settle_43] at h
    refine hr_aload_n hC dX21_settle_43 rfl ?_
    refine hr_gA hC F23_18 rfl dX21_settle_44 q2860 ?_
    refine hr_iload hC dX21_settle_47 rfl ?_
    obtain ⟨c5, h⟩ := hk_ok h
    refine hs_bald hC A23_18 c5 dX21_settle_49 ?_
    refine hr_iconst (v := 5) hC dX21_settle_50 rfl ?_
    refine hr_icmp_ne (x := _) hC 80 dX21_settle_51 (by decide) (fun c7 => ?_) (fun c7 => ?_)
    · rw [if_neg c7] at h
      obtain rfl := Option.some.inj h
      exact hr_sub _ rfl (JX)
    · rw [if_pos c7] at h
      refine hr_aload_n hC dX21_settle_54 rfl ?_
      refine hr_aload_n hC dX21_settle_55 rfl ?_
      refine hr_gA hC F23_19 rfl dX21_settle_56 q2861 ?_
      refine hr_iload hC dX21_settle_59 rfl ?_
      obtain ⟨c8, h⟩ := hk_ok h
      refine hs_iald hC A23_19 c8 dX21_settle_61 ?_
      obtain ⟨r9, e10, h⟩ := hx_bind h
      refine hs_callV0 hC 23 [_] _ dX21_settle_62 q3290 q3292 qs209 q335 q3293 np_X21 rfl OB_23 pd_X21_isNothing (Nat.le_of_ble_eq_true rfl) hd1 (okX21_isNothing l E A (d - 1)  (by omega)  e10 am1) rfl ?_
      refine hr_if_eq (x := _) hC 80 dX21_settle_65 (by decide) (fun c14 => ?_) (fun c14 => ?_)
      · rw [if_pos c14] at h
        obtain rfl := Option.some.inj h
        exact hr_sub _ rfl (JX)
      · rw [if_neg c14] at h
        refine hr_aload_n hC dX21_settle_68 rfl ?_
        refine hr_gA hC F23_21 rfl dX21_settle_69 q2863 ?_
        refine hr_iload hC dX21_settle_72 rfl ?_
        obtain ⟨c15, h⟩ := hk_ok h
        refine hs_iald hC A23_21 c15 dX21_settle_74 ?_
        refine hr_istore hC dX21_settle_75 (by decide) ?_
        refine hr_goto hC 43 dX21_settle_77 (by decide) ?_
        exact hr_sub _ rfl (ih _ _ _ _ _ _ am1 h JX)
set_option maxRecDepth 20000 in
set_option maxHeartbeats 4000000 in
theorem okX21_settle (l : Launch) (E : hc_E) (A : Nat → Prop) (d : Nat) (n : Nat) (hD : 2 ≤ d) {x1 : Int32} {σ : hc_St} {r : (Int32 × hc_St)} (h : fm_X21_settle n x1 σ = some r) (am : Nat → Nat → Nat) : hc_M l hc_V0 yX21_settle (ws_ yX21_settle cX21_settle 5 (some .int)) d E A [.ref (E.2.1 23), .int x1] am [] σ (.inl (some (.int r.1))) r.2 := by
  have hd1 : 1 ≤ d := by omega
  refine hc_enter2 (own := RX21) [(0, .ref (E.2.1 23)), (1, .int x1)] pl_X21 rfl hc_V0_st hc_G0_nd rfl (Nat.le_of_ble_eq_true rfl) (fun X hC hem => ?_)
  unfold fm_X21_settle at h
  refine hr_aload_n hC dX21_settle_0 rfl ?_
  refine hr_dup hC dX21_settle_1 rfl ?_
  refine hr_gI hC F23_30 dX21_settle_2 q2872 ?_
  refine hr_iconst (v := 1) hC dX21_settle_5 rfl ?_
  refine hr_isub hC dX21_settle_6 ?_
  obtain ⟨σ1, hσ1, h⟩ := hl_ok h
  refine hr_pI hC F23_30 PX21_30 dX21_settle_7 q2872 ?_
  rw [← hσ1]
  refine hr_aload_n hC dX21_settle_10 rfl ?_
  refine hr_dup hC dX21_settle_11 rfl ?_
  refine hr_gI hC F23_16 dX21_settle_12 q2858 ?_
  refine hr_iconst (v := 1) hC dX21_settle_15 rfl ?_
  refine hr_isub hC dX21_settle_16 ?_
  obtain ⟨σ2, hσ2, h⟩ := hl_ok h
  refine hr_pI hC F23_16 PX21_16 dX21_settle_17 q2858 ?_
  rw [← hσ2]
  refine hr_aload_n hC dX21_settle_20 rfl ?_
  refine hr_gA hC F23_33 rfl dX21_settle_21 q2875 ?_
  refine hr_aload_n hC dX21_settle_24 rfl ?_
  refine hr_gI hC F23_30 dX21_settle_25 q2872 ?_
  obtain ⟨c3, h⟩ := hk_ok h
  refine hs_iald hC A23_33 c3 dX21_settle_28 ?_
  refine hr_istore_n hC dX21_settle_29 (by decide) ?_
  refine hr_aload_n hC dX21_settle_30 rfl ?_
  refine hr_gA hC F23_31 rfl dX21_settle_31 q2873 ?_
  refine hr_aload_n hC dX21_settle_34 rfl ?_
  refine hr_gI hC F23_30 dX21_settle_35 q2872 ?_
  obtain ⟨c4, h⟩ := hk_ok h
  refine hs_iald hC A23_31 c4 dX21_settle_38 ?_
  refine hr_istore_n hC dX21_settle_39 (by decide) ?_
  refine hr_iload_n hC dX21_settle_40 rfl ?_
  refine hr_istore hC dX21_settle_41 (by decide) ?_
  obtain ⟨r16, e17, h⟩ := hx_bind h
  refine hr_sub _ rfl (ll_X21_settle_43 n hD hem hC n _ _ _ _ _ _ am e17 ?_)
  refine hr_aload_n hC dX21_settle_80 rfl ?_
  refine hr_gA hC F23_20 rfl dX21_settle_81 q2862 ?_
  refine hr_iload hC dX21_settle_84 rfl ?_
  refine hr_aload_n hC dX21_settle_86 rfl ?_
  refine hr_gA hC F23_18 rfl dX21_settle_87 q2860 ?_
  refine hr_iload hC dX21_settle_90 rfl ?_
  obtain ⟨c21, h⟩ := hk_ok h
  refine hs_bald hC A23_18 c21 dX21_settle_92 ?_
  refine hr_bipush (v := 7) hC dX21_settle_93 rfl ?_
  obtain ⟨r24, e25, h⟩ := hx_bind h
  have J26 : hc_At hc_V0 E 5 X 125 [(0, .ref (E.2.1 23)), (1, .int x1), (2, .int (gC σ2 23 33 ((gI σ2 23 30)))), (3, .int (gC σ2 23 31 ((gI σ2 23 30)))), (4, .int r16)] [.int r24, .int r16, .ref (am 23 20)] σ2 am [] := by
    obtain ⟨c34, h⟩ := hk_ok h
    obtain ⟨σ35, hσ35, h⟩ := hl_ok h
    refine hs_iast hC A23_20 c34 dX21_settle_125 ?_
    rw [← hσ35]
    refine hr_aload_n hC dX21_settle_126 rfl ?_
    refine hr_gA hC F23_18 rfl dX21_settle_127 q2860 ?_
    refine hr_iload hC dX21_settle_130 rfl ?_
    obtain ⟨c36, h⟩ := hk_ok h
    refine hs_bald hC A23_18 c36 dX21_settle_132 ?_
    refine hr_bipush (v := 7) hC dX21_settle_133 rfl ?_
    obtain ⟨r39, e40, h⟩ := hx_bind h
    have J41 : hc_At hc_V0 E 5 X 218 [(0, .ref (E.2.1 23)), (1, .int x1), (4, .int r39.2)] [] r39.1 am [] := by
      refine hr_aload_n hC dX21_settle_218 rfl ?_
      refine hr_gA hC F23_27 rfl dX21_settle_219 q2869 ?_
      refine hr_iload hC dX21_settle_222 rfl ?_
      refine hr_aload_n hC dX21_settle_224 rfl ?_
      refine hr_gA hC F23_27 rfl dX21_settle_225 q2869 ?_
      refine hr_iload hC dX21_settle_228 rfl ?_
      obtain ⟨c80, h⟩ := hk_ok h
      refine hs_iald hC A23_27 c80 dX21_settle_230 ?_
      refine hr_iconst (v := 1) hC dX21_settle_231 rfl ?_
      refine hr_aload_n hC dX21_settle_232 rfl ?_
      refine hr_gA hC F23_27 rfl dX21_settle_233 q2869 ?_
      refine hr_iload_n hC dX21_settle_236 rfl ?_
      obtain ⟨c81, h⟩ := hk_ok h
      refine hs_iald hC A23_27 c81 dX21_settle_237 ?_
      refine hr_iadd hC dX21_settle_238 ?_
      obtain ⟨r82, e83, h⟩ := hx_bind h
      refine hs_callS0 hC [_, _] _ dX21_settle_239 q3275 q3276 q335 q3277 np_X21 rfl pd_X21_deeper (Nat.le_of_ble_eq_true rfl) hd1 (okX21_deeper l E A (d - 1)  (by omega)  e83 am) rfl ?_
      obtain ⟨c86, h⟩ := hk_ok h
      obtain ⟨σ87, hσ87, h⟩ := hl_ok h
      refine hs_iast hC A23_27 c86 dX21_settle_242 ?_
      rw [← hσ87]
      refine hr_aload_n hC dX21_settle_243 rfl ?_
      refine hr_gA hC F23_25 rfl dX21_settle_244 q2867 ?_
      refine hr_aload_n hC dX21_settle_247 rfl ?_
      refine hr_gA hC F23_22 rfl dX21_settle_248 q2864 ?_
      refine hr_iload hC dX21_settle_251 rfl ?_
      obtain ⟨c88, h⟩ := hk_ok h
      refine hs_iald hC A23_22 c88 dX21_settle_253 ?_
      refine hr_iload_n hC dX21_settle_254 rfl ?_
      obtain ⟨c89, h⟩ := hk_ok h
      obtain ⟨σ90, hσ90, h⟩ := hl_ok h
      refine hs_iast hC A23_25 c89 dX21_settle_255 ?_
      rw [← hσ90]
      refine hr_aload_n hC dX21_settle_256 rfl ?_
      refine hr_gA hC F23_22 rfl dX21_settle_257 q2864 ?_
      refine hr_iload hC dX21_settle_260 rfl ?_
      refine hr_iload_n hC dX21_settle_262 rfl ?_
      obtain ⟨c91, h⟩ := hk_ok h
      obtain ⟨σ92, hσ92, h⟩ := hl_ok h
      refine hs_iast hC A23_22 c91 dX21_settle_263 ?_
      rw [← hσ92]
      refine hr_aload_n hC dX21_settle_264 rfl ?_
      refine hr_gA hC F23_24 rfl dX21_settle_265 q2866 ?_
      refine hr_iload_n hC dX21_settle_268 rfl ?_
      refine hr_aload_n hC dX21_settle_269 rfl ?_
      refine hr_gA hC F23_32 rfl dX21_settle_270 q2874 ?_
      refine hr_aload_n hC dX21_settle_273 rfl ?_
      refine hr_gI hC F23_30 dX21_settle_274 q2872 ?_
      obtain ⟨c93, h⟩ := hk_ok h
      refine hs_iald hC A23_32 c93 dX21_settle_277 ?_
      obtain ⟨c94, h⟩ := hk_ok h
      obtain ⟨σ95, hσ95, h⟩ := hl_ok h
      refine hs_iast hC A23_24 c94 dX21_settle_278 ?_
      rw [← hσ95]
      refine hr_iload hC dX21_settle_279 rfl ?_
      obtain rfl := Option.some.inj h
      exact hr_iret hC dX21_settle_281
    clear h
    have h := e40
    refine hr_icmp_ne (x := _) hC 149 dX21_settle_135 (by decide) (fun c38 => ?_) (fun c38 => ?_)
    · rw [if_neg c38] at h
      refine hr_aload_n hC dX21_settle_149 rfl ?_
      refine hr_bipush (v := 7) hC dX21_settle_150 rfl ?_
      refine hr_aload_n hC dX21_settle_152 rfl ?_
      refine hr_gA hC F23_32 rfl dX21_settle_153 q2874 ?_
      refine hr_aload_n hC dX21_settle_156 rfl ?_
      refine hr_gI hC F23_30 dX21_settle_157 q2872 ?_
      obtain ⟨c43, h⟩ := hk_ok h
      refine hs_iald hC A23_32 c43 dX21_settle_160 ?_
      obtain ⟨r44, e45, h⟩ := hx_bind h
      refine hs_callV0 hC 23 [_, _] _ dX21_settle_161 q3194 q3196 qs188 q335 q3197 np_X21 rfl OB_23 pd_X21_make (Nat.le_of_ble_eq_true rfl) hd1 (okX21_make l E A (d - 1)  (by omega)  e45 am) rfl ?_
      refine hr_istore hC dX21_settle_164 (by decide) ?_
      refine hr_aload_n hC dX21_settle_166 rfl ?_
      refine hr_gA hC F23_20 rfl dX21_settle_167 q2862 ?_
      refine hr_iload hC dX21_settle_170 rfl ?_
      refine hr_aload_n hC dX21_settle_172 rfl ?_
      refine hr_gA hC F23_20 rfl dX21_settle_173 q2862 ?_
      refine hr_iload_n hC dX21_settle_176 rfl ?_
      obtain ⟨c48, h⟩ := hk_ok h
      refine hs_iald hC A23_20 c48 dX21_settle_177 ?_
      obtain ⟨c49, h⟩ := hk_ok h
      obtain ⟨σ50, hσ50, h⟩ := hl_ok h
      refine hs_iast hC A23_20 c49 dX21_settle_178 ?_
      rw [← hσ50]
      refine hr_aload_n hC dX21_settle_179 rfl ?_
      refine hr_gA hC F23_26 rfl dX21_settle_180 q2868 ?_
      refine hr_iload hC dX21_settle_183 rfl ?_
      refine hr_iload_n hC dX21_settle_185 rfl ?_
      obtain ⟨c51, h⟩ := hk_ok h
      obtain ⟨σ52, hσ52, h⟩ := hl_ok h
      refine hs_iast hC A23_26 c51 dX21_settle_186 ?_
      rw [← hσ52]
      refine hr_aload_n hC dX21_settle_187 rfl ?_
      refine hr_gA hC F23_21 rfl dX21_settle_188 q2863 ?_
      refine hr_iload hC dX21_settle_191 rfl ?_
      refine hr_iload_n hC dX21_settle_193 rfl ?_
      obtain ⟨c53, h⟩ := hk_ok h
      obtain ⟨σ54, hσ54, h⟩ := hl_ok h
      refine hs_iast hC A23_21 c53 dX21_settle_194 ?_
      rw [← hσ54]
      refine hr_aload_n hC dX21_settle_195 rfl ?_
      refine hr_gA hC F23_22 rfl dX21_settle_196 q2864 ?_
      refine hr_iload hC dX21_settle_199 rfl ?_
      refine hr_iload_n hC dX21_settle_201 rfl ?_
      obtain ⟨c55, h⟩ := hk_ok h
      obtain ⟨σ56, hσ56, h⟩ := hl_ok h
      refine hs_iast hC A23_22 c55 dX21_settle_202 ?_
      rw [← hσ56]
      refine hr_aload_n hC dX21_settle_203 rfl ?_
      refine hr_gA hC F23_27 rfl dX21_settle_204 q2869 ?_
      refine hr_iload hC dX21_settle_207 rfl ?_
      refine hr_iconst (v := 1) hC dX21_settle_209 rfl ?_
      refine hr_aload_n hC dX21_settle_210 rfl ?_
      refine hr_gA hC F23_27 rfl dX21_settle_211 q2869 ?_
      refine hr_iload_n hC dX21_settle_214 rfl ?_
      obtain ⟨c57, h⟩ := hk_ok h
      refine hs_iald hC A23_27 c57 dX21_settle_215 ?_
      refine hr_iadd hC dX21_settle_216 ?_
      obtain ⟨c58, h⟩ := hk_ok h
      obtain ⟨σ59, hσ59, h⟩ := hl_ok h
      refine hs_iast hC A23_27 c58 dX21_settle_217 ?_
      rw [← hσ59]
      obtain rfl := Option.some.inj h
      exact hr_sub _ rfl (J41)
    · rw [if_pos c38] at h
      refine hr_aload_n hC dX21_settle_138 rfl ?_
      refine hr_gA hC F23_26 rfl dX21_settle_139 q2868 ?_
      refine hr_iload hC dX21_settle_142 rfl ?_
      obtain ⟨c60, h⟩ := hk_ok h
      refine hs_iald hC A23_26 c60 dX21_settle_144 ?_
      refine hr_iload_n hC dX21_settle_145 rfl ?_
      refine hr_icmp_eq (x := _) hC 218 dX21_settle_146 (by decide) (fun c62 => ?_) (fun c62 => ?_)
      · rw [if_pos c62] at h
        obtain rfl := Option.some.inj h
        exact hr_sub _ rfl (J41)
      · rw [if_neg c62] at h
        refine hr_aload_n hC dX21_settle_149 rfl ?_
        refine hr_bipush (v := 7) hC dX21_settle_150 rfl ?_
        refine hr_aload_n hC dX21_settle_152 rfl ?_
        refine hr_gA hC F23_32 rfl dX21_settle_153 q2874 ?_
        refine hr_aload_n hC dX21_settle_156 rfl ?_
        refine hr_gI hC F23_30 dX21_settle_157 q2872 ?_
        obtain ⟨c63, h⟩ := hk_ok h
        refine hs_iald hC A23_32 c63 dX21_settle_160 ?_
        obtain ⟨r64, e65, h⟩ := hx_bind h
        refine hs_callV0 hC 23 [_, _] _ dX21_settle_161 q3194 q3196 qs188 q335 q3197 np_X21 rfl OB_23 pd_X21_make (Nat.le_of_ble_eq_true rfl) hd1 (okX21_make l E A (d - 1)  (by omega)  e65 am) rfl ?_
        refine hr_istore hC dX21_settle_164 (by decide) ?_
        refine hr_aload_n hC dX21_settle_166 rfl ?_
        refine hr_gA hC F23_20 rfl dX21_settle_167 q2862 ?_
        refine hr_iload hC dX21_settle_170 rfl ?_
        refine hr_aload_n hC dX21_settle_172 rfl ?_
        refine hr_gA hC F23_20 rfl dX21_settle_173 q2862 ?_
        refine hr_iload_n hC dX21_settle_176 rfl ?_
        obtain ⟨c68, h⟩ := hk_ok h
        refine hs_iald hC A23_20 c68 dX21_settle_177 ?_
        obtain ⟨c69, h⟩ := hk_ok h
        obtain ⟨σ70, hσ70, h⟩ := hl_ok h
        refine hs_iast hC A23_20 c69 dX21_settle_178 ?_
        rw [← hσ70]
        refine hr_aload_n hC dX21_settle_179 rfl ?_
        refine hr_gA hC F23_26 rfl dX21_settle_180 q2868 ?_
        refine hr_iload hC dX21_settle_183 rfl ?_
        refine hr_iload_n hC dX21_settle_185 rfl ?_
        obtain ⟨c71, h⟩ := hk_ok h
        obtain ⟨σ72, hσ72, h⟩ := hl_ok h
        refine hs_iast hC A23_26 c71 dX21_settle_186 ?_
        rw [← hσ72]
        refine hr_aload_n hC dX21_settle_187 rfl ?_
        refine hr_gA hC F23_21 rfl dX21_settle_188 q2863 ?_
        refine hr_iload hC dX21_settle_191 rfl ?_
        refine hr_iload_n hC dX21_settle_193 rfl ?_
        obtain ⟨c73, h⟩ := hk_ok h
        obtain ⟨σ74, hσ74, h⟩ := hl_ok h
        refine hs_iast hC A23_21 c73 dX21_settle_194 ?_
        rw [← hσ74]
        refine hr_aload_n hC dX21_settle_195 rfl ?_
        refine hr_gA hC F23_22 rfl dX21_settle_196 q2864 ?_
        refine hr_iload hC dX21_settle_199 rfl ?_
        refine hr_iload_n hC dX21_settle_201 rfl ?_
        obtain ⟨c75, h⟩ := hk_ok h
        obtain ⟨σ76, hσ76, h⟩ := hl_ok h
        refine hs_iast hC A23_22 c75 dX21_settle_202 ?_
        rw [← hσ76]
        refine hr_aload_n hC dX21_settle_203 rfl ?_
        refine hr_gA hC F23_27 rfl dX21_settle_204 q2869 ?_
        refine hr_iload hC dX21_settle_207 rfl ?_
        refine hr_iconst (v := 1) hC dX21_settle_209 rfl ?_
        refine hr_aload_n hC dX21_settle_210 rfl ?_
        refine hr_gA hC F23_27 rfl dX21_settle_211 q2869 ?_
        refine hr_iload_n hC dX21_settle_214 rfl ?_
        obtain ⟨c77, h⟩ := hk_ok h
        refine hs_iald hC A23_27 c77 dX21_settle_215 ?_
        refine hr_iadd hC dX21_settle_216 ?_
        obtain ⟨c78, h⟩ := hk_ok h
        obtain ⟨σ79, hσ79, h⟩ := hl_ok h
        refine hs_iast hC A23_27 c78 dX21_settle_217 ?_
        rw [← hσ79]
        obtain rfl := Option.some.inj h
        exact hr_sub _ rfl (J41)
  clear h
  have h := e25
  refine hr_icmp_ne (x := _) hC 118 dX21_settle_95 (by decide) (fun c23 => ?_) (fun c23 => ?_)
  · rw [if_neg c23] at h
    refine hr_aload_n hC dX21_settle_118 rfl ?_
    refine hr_gA hC F23_20 rfl dX21_settle_119 q2862 ?_
    refine hr_iload hC dX21_settle_122 rfl ?_
    obtain ⟨c28, h⟩ := hk_ok h
    refine hs_iald hC A23_20 c28 dX21_settle_124 ?_
    obtain rfl := Option.some.inj h
    exact hr_sub _ rfl (J26)
  · rw [if_pos c23] at h
    refine hr_aload_n hC dX21_settle_98 rfl ?_
    refine hr_gA hC F23_26 rfl dX21_settle_99 q2868 ?_
    refine hr_iload hC dX21_settle_102 rfl ?_
    obtain ⟨c29, h⟩ := hk_ok h
    refine hs_iald hC A23_26 c29 dX21_settle_104 ?_
    refine hr_iload_n hC dX21_settle_105 rfl ?_
    refine hr_icmp_ne (x := _) hC 118 dX21_settle_106 (by decide) (fun c31 => ?_) (fun c31 => ?_)
    · rw [if_neg c31] at h
      refine hr_aload_n hC dX21_settle_118 rfl ?_
      refine hr_gA hC F23_20 rfl dX21_settle_119 q2862 ?_
      refine hr_iload hC dX21_settle_122 rfl ?_
      obtain ⟨c32, h⟩ := hk_ok h
      refine hs_iald hC A23_20 c32 dX21_settle_124 ?_
      obtain rfl := Option.some.inj h
      exact hr_sub _ rfl (J26)
    · rw [if_pos c31] at h
      refine hr_aload_n hC dX21_settle_109 rfl ?_
      refine hr_gA hC F23_20 rfl dX21_settle_110 q2862 ?_
      refine hr_iload_n hC dX21_settle_113 rfl ?_
      obtain ⟨c33, h⟩ := hk_ok h
      refine hs_iald hC A23_20 c33 dX21_settle_114 ?_
      refine hr_goto hC 125 dX21_settle_115 (by decide) ?_
      obtain rfl := Option.some.inj h
      exact hr_sub _ rfl (J26)
