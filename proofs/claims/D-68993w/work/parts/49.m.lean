set_option maxRecDepth 20000
/-- HomeCompilerModel.variable()I -/
def fm_X21_variable (n : Nat) (k0 : Nat)  (σ : hc_St) : Option (Nat × Int32 × hc_St) := Option.bind (fm_X21_name  σ) fun r1 => ht r1 <| Option.bind (fm_X21_make 40 r1.2.1 r1.2.2) fun r6 => hk (inb r6.1 (gL r6.2 23 26)) <| hl (pC r6.2 23 26 r6.1 0) fun σ11 => Option.bind (fm_X21_is 78 σ11) fun r12 => Option.bind (α := Nat × hc_St × Int32) (if r12 = 0 then (Option.bind (fm_X21_takes 84 σ11) fun r22 => if r22.1 = 0 then (some (0, r22.2, (0 : Int32))) else (hk (inb r6.1 (gL r22.2 23 26)) <| hl (pC r22.2 23 26 r6.1 1) fun σ29 => Option.bind (fm_X21_expression n k0 σ29) fun r30 => hv r30 (0) <| hk (inb r6.1 (gL r30.2.2 23 22)) <| hl (pC r30.2.2 23 22 r6.1 r30.2.1) fun σ36 => some (0, σ36, (0 : Int32)))) else (Option.bind (fm_X21_opens  σ11) fun r37 => hv r37 (0) <| Option.bind (fm_X21_constant n k0 r37.2.2) fun r42 => hv r42 (0) <| hk (inb r6.1 (gL r42.2.2 23 21)) <| hl (pC r42.2.2 23 21 r6.1 r42.2.1) fun σ48 => Option.bind (fm_X21_closes 79 σ48) fun r49 => hv r49 (0) <| Option.bind (fm_X21_takes 84 r49.2.2) fun r54 => if r54.1 = 0 then (some (0, r54.2, (0 : Int32))) else (Option.bind (fm_X21_arrayValue n k0 r6.1 r54.2) fun r60 => hv r60 (0) <| some (0, r60.2.2, (0 : Int32))))) fun r18 => hu r18 <| some (0, r6.1, r18.2.1)
set_option maxRecDepth 20000 in
set_option maxHeartbeats 4000000 in
theorem okX21_variable (l : Launch) (E : hc_E) (A : Nat → Prop) (d : Nat) (n : Nat) (k0 : Nat) (hD : 1 * k0 + 19 ≤ d)  {σ : hc_St} {r : (Nat × Int32 × hc_St)} (h : fm_X21_variable n k0  σ = some r) (am : Nat → Nat → Nat) : hc_M l hc_V0 yX21_variable (ws_ yX21_variable cX21_variable 2 (some .int)) d E A [.ref (E.2.1 23)] am [] σ (hc_ot (fun v => some (.int v)) r) r.2.2 := by
  have hd1 : 1 ≤ d := by omega
  have hd8 : 9 ≤ d := by omega
  have hd12 : 12 ≤ d := by omega
  refine hc_enter2 (own := RX21) [(0, .ref (E.2.1 23))] pl_X21 rfl hc_V0_st hc_G0_nd rfl (Nat.le_of_ble_eq_true rfl) (fun X hC hem => ?_)
  have HX := fun z => hc_CX hC z
  unfold fm_X21_variable at h
  refine hr_aload_n hC dX21_variable_0 rfl ?_
  refine hr_bipush (v := 40) hC dX21_variable_1 rfl ?_
  refine hr_aload_n hC dX21_variable_3 rfl ?_
  obtain ⟨r1, e2, h⟩ := hx_bind h
  by_cases z5 : r1.1 = 0
  · rw [ht_0 z5] at h
    refine hs_callV0 hC 23 [] _ dX21_variable_4 q3227 q3229 qs194 q335 q3230 np_X21 rfl OB_23 pd_X21_name (Nat.le_of_ble_eq_true rfl) hd1 (hc_M0 (r := r1) (okX21_name l E A (d - 1)  (by omega)  e2 am) z5) rfl ?_
    obtain ⟨r6, e7, h⟩ := hx_bind h
    refine hs_callV0 hC 23 [_, _] _ dX21_variable_7 q3194 q3196 qs188 q335 q3197 np_X21 rfl OB_23 pd_X21_make (Nat.le_of_ble_eq_true rfl) hd1 (okX21_make l E A (d - 1)  (by omega)  e7 am) rfl ?_
    refine hr_istore_n hC dX21_variable_10 (by decide) ?_
    refine hr_aload_n hC dX21_variable_11 rfl ?_
    refine hr_gA hC F23_26 rfl dX21_variable_12 q2868 ?_
    refine hr_iload_n hC dX21_variable_15 rfl ?_
    refine hr_iconst (v := 0) hC dX21_variable_16 rfl ?_
    obtain ⟨c10, h⟩ := hk_ok h
    obtain ⟨σ11, hσ11, h⟩ := hl_ok h
    refine hs_iast hC A23_26 c10 dX21_variable_17 ?_
    rw [← hσ11]
    refine hr_aload_n hC dX21_variable_18 rfl ?_
    refine hr_ldcs (v := 78) 78 hC dX21_variable_19 (List.mem_of_getElem? (i := 78) rfl) (by decide) rfl ?_
    obtain ⟨r12, e13, h⟩ := hx_bind h
    refine hs_callV0 hC 23 [_] _ dX21_variable_21 q3202 q3204 qs190 q335 q3205 np_X21 rfl OB_23 pd_X21_is (Nat.le_of_ble_eq_true rfl) hd1 (okX21_is l E A (d - 1)  (by omega)  e13 am) rfl ?_
    obtain ⟨r18, e19, h⟩ := hx_bind h
    have J20 : r18.1 = 0 → hc_At hc_V0 E 2 X 90 [(1, .int r6.1)] [] r18.2.1 am [] := by
      intro z21
      rw [hu_0 z21] at h
      refine hr_iload_n hC dX21_variable_90 rfl ?_
      obtain rfl := Option.some.inj h
      exact hr_iret hC dX21_variable_91
    have HX : r18.1 ≠ 0 → hc_C hc_V0 E cX21_variable 2 RX21 (some .int) d (.inr r18.1) r18.2.1 (l, A, am, []) X := by
      intro z21
      rw [hu_1 z21] at h
      obtain rfl := Option.some.inj h
      exact HX z21
    clear h
    have h := e19
    refine hr_if_eq (x := _) hC 64 dX21_variable_24 (by decide) (fun c17 => ?_) (fun c17 => ?_)
    · rw [if_pos c17] at h
      refine hr_aload_n hC dX21_variable_64 rfl ?_
      refine hr_ldcs (v := 84) 84 hC dX21_variable_65 (List.mem_of_getElem? (i := 84) rfl) (by decide) rfl ?_
      obtain ⟨r22, e23, h⟩ := hx_bind h
      refine hs_callV0 hC 23 [_] _ dX21_variable_67 q3231 q3233 qs195 q335 q3234 np_X21 rfl OB_23 pd_X21_takes (Nat.le_of_ble_eq_true rfl) hd1 (okX21_takes l E A (d - 1)  (by omega)  e23 am) rfl ?_
      refine hr_if_eq (x := _) hC 90 dX21_variable_70 (by decide) (fun c27 => ?_) (fun c27 => ?_)
      · rw [if_pos c27] at h
        obtain rfl := Option.some.inj h
        exact hr_sub _ rfl (J20 rfl)
      · rw [if_neg c27] at h
        refine hr_aload_n hC dX21_variable_73 rfl ?_
        refine hr_gA hC F23_26 rfl dX21_variable_74 q2868 ?_
        refine hr_iload_n hC dX21_variable_77 rfl ?_
        refine hr_iconst (v := 1) hC dX21_variable_78 rfl ?_
        obtain ⟨c28, h⟩ := hk_ok h
        obtain ⟨σ29, hσ29, h⟩ := hl_ok h
        refine hs_iast hC A23_26 c28 dX21_variable_79 ?_
        rw [← hσ29]
        refine hr_aload_n hC dX21_variable_80 rfl ?_
        refine hr_gA hC F23_22 rfl dX21_variable_81 q2864 ?_
        refine hr_iload_n hC dX21_variable_84 rfl ?_
        refine hr_aload_n hC dX21_variable_85 rfl ?_
        obtain ⟨r30, e31, h⟩ := hx_bind h
        by_cases z34 : r30.1 = 0
        · rw [hv_0 z34] at h
          refine hs_callV0 hC 23 [] _ dX21_variable_86 q3263 q3265 qs203 q335 q3266 np_X21 rfl OB_23 pd_X21_expression (Nat.le_of_ble_eq_true rfl) hd1 (hc_M0 (r := r30) (okX21_expression l E A (d - 1) n k0 (by omega)  e31 am) z34) rfl ?_
          obtain ⟨c35, h⟩ := hk_ok h
          obtain ⟨σ36, hσ36, h⟩ := hl_ok h
          refine hs_iast hC A23_22 c35 dX21_variable_89 ?_
          rw [← hσ36]
          obtain rfl := Option.some.inj h
          exact hr_sub _ rfl (J20 rfl)
        · rw [hv_1 z34] at h
          obtain rfl := Option.some.inj h
          exact hs_callVx (HX z34) hem 23 [] _ dX21_variable_86 q3263 q3265 qs203 q335 q3266 np_X21 rfl OB_23 pd_X21_expression (Nat.le_of_ble_eq_true rfl) hd1 (hc_M1 (r := r30) (okX21_expression l E A (d - 1) n k0 (by omega)  e31 am) z34) (hc_rb rfl) rfl
    · rw [if_neg c17] at h
      refine hr_aload_n hC dX21_variable_27 rfl ?_
      obtain ⟨r37, e38, h⟩ := hx_bind h
      by_cases z41 : r37.1 = 0
      · rw [hv_0 z41] at h
        refine hs_callV0 hC 23 [] _ dX21_variable_28 q3223 q3225 qs193 q335 q3226 np_X21 rfl OB_23 pd_X21_opens (Nat.le_of_ble_eq_true rfl) hd1 (hc_M0 (r := r37) (okX21_opens l E A (d - 1)  (by omega)  e38 am) z41) rfl ?_
        refine hr_aload_n hC dX21_variable_31 rfl ?_
        refine hr_gA hC F23_21 rfl dX21_variable_32 q2863 ?_
        refine hr_iload_n hC dX21_variable_35 rfl ?_
        refine hr_aload_n hC dX21_variable_36 rfl ?_
        obtain ⟨r42, e43, h⟩ := hx_bind h
        by_cases z46 : r42.1 = 0
        · rw [hv_0 z46] at h
          refine hs_callV0 hC 23 [] _ dX21_variable_37 q3235 q3237 qs196 q335 q3238 np_X21 rfl OB_23 pd_X21_constant (Nat.le_of_ble_eq_true rfl) hd1 (hc_M0 (r := r42) (okX21_constant l E A (d - 1) n k0 (by omega)  e43 am) z46) rfl ?_
          obtain ⟨c47, h⟩ := hk_ok h
          obtain ⟨σ48, hσ48, h⟩ := hl_ok h
          refine hs_iast hC A23_21 c47 dX21_variable_40 ?_
          rw [← hσ48]
          refine hr_aload_n hC dX21_variable_41 rfl ?_
          refine hr_ldcs (v := 79) 79 hC dX21_variable_42 (List.mem_of_getElem? (i := 79) rfl) (by decide) rfl ?_
          obtain ⟨r49, e50, h⟩ := hx_bind h
          by_cases z53 : r49.1 = 0
          · rw [hv_0 z53] at h
            refine hs_callV0 hC 23 [_] _ dX21_variable_44 q3278 q3280 qs206 q335 q3281 np_X21 rfl OB_23 pd_X21_closes (Nat.le_of_ble_eq_true rfl) hd1 (hc_M0 (r := r49) (okX21_closes l E A (d - 1)  (by omega)  e50 am) z53) rfl ?_
            refine hr_aload_n hC dX21_variable_47 rfl ?_
            refine hr_ldcs (v := 84) 84 hC dX21_variable_48 (List.mem_of_getElem? (i := 84) rfl) (by decide) rfl ?_
            obtain ⟨r54, e55, h⟩ := hx_bind h
            refine hs_callV0 hC 23 [_] _ dX21_variable_50 q3231 q3233 qs195 q335 q3234 np_X21 rfl OB_23 pd_X21_takes (Nat.le_of_ble_eq_true rfl) hd1 (okX21_takes l E A (d - 1)  (by omega)  e55 am) rfl ?_
            refine hr_if_eq (x := _) hC 90 dX21_variable_53 (by decide) (fun c59 => ?_) (fun c59 => ?_)
            · rw [if_pos c59] at h
              obtain rfl := Option.some.inj h
              exact hr_sub _ rfl (J20 rfl)
            · rw [if_neg c59] at h
              refine hr_aload_n hC dX21_variable_56 rfl ?_
              refine hr_iload_n hC dX21_variable_57 rfl ?_
              obtain ⟨r60, e61, h⟩ := hx_bind h
              by_cases z64 : r60.1 = 0
              · rw [hv_0 z64] at h
                refine hs_callV0 hC 23 [_] _ dX21_variable_58 q3342 q3344 qs222 q335 q3345 np_X21 rfl OB_23 pd_X21_arrayValue (Nat.le_of_ble_eq_true rfl) hd1 (hc_M0 (r := r60) (okX21_arrayValue l E A (d - 1) n k0 (by omega)  e61 am) z64) rfl ?_
                refine hr_goto hC 90 dX21_variable_61 (by decide) ?_
                obtain rfl := Option.some.inj h
                exact hr_sub _ rfl (J20 rfl)
              · rw [hv_1 z64] at h
                obtain rfl := Option.some.inj h
                exact hs_callVx (HX z64) hem 23 [_] _ dX21_variable_58 q3342 q3344 qs222 q335 q3345 np_X21 rfl OB_23 pd_X21_arrayValue (Nat.le_of_ble_eq_true rfl) hd1 (hc_M1 (r := r60) (okX21_arrayValue l E A (d - 1) n k0 (by omega)  e61 am) z64) (hc_rb rfl) rfl
          · rw [hv_1 z53] at h
            obtain rfl := Option.some.inj h
            exact hs_callVx (HX z53) hem 23 [_] _ dX21_variable_44 q3278 q3280 qs206 q335 q3281 np_X21 rfl OB_23 pd_X21_closes (Nat.le_of_ble_eq_true rfl) hd1 (hc_M1 (r := r49) (okX21_closes l E A (d - 1)  (by omega)  e50 am) z53) (hc_rb rfl) rfl
        · rw [hv_1 z46] at h
          obtain rfl := Option.some.inj h
          exact hs_callVx (HX z46) hem 23 [] _ dX21_variable_37 q3235 q3237 qs196 q335 q3238 np_X21 rfl OB_23 pd_X21_constant (Nat.le_of_ble_eq_true rfl) hd1 (hc_M1 (r := r42) (okX21_constant l E A (d - 1) n k0 (by omega)  e43 am) z46) (hc_rb rfl) rfl
      · rw [hv_1 z41] at h
        obtain rfl := Option.some.inj h
        exact hs_callVx (HX z41) hem 23 [] _ dX21_variable_28 q3223 q3225 qs193 q335 q3226 np_X21 rfl OB_23 pd_X21_opens (Nat.le_of_ble_eq_true rfl) hd1 (hc_M1 (r := r37) (okX21_opens l E A (d - 1)  (by omega)  e38 am) z41) (hc_rb rfl) rfl
  · rw [ht_1 z5] at h
    obtain rfl := Option.some.inj h
    exact hs_callVx (HX z5) hem 23 [] _ dX21_variable_4 q3227 q3229 qs194 q335 q3230 np_X21 rfl OB_23 pd_X21_name (Nat.le_of_ble_eq_true rfl) hd1 (hc_M1 (r := r1) (okX21_name l E A (d - 1)  (by omega)  e2 am) z5) (hc_rb rfl) rfl
def lp_X21_variables_7 (n : Nat) (k0 : Nat) : Nat → Int32 → Int32 → hc_St → Option (Nat × hc_St × Int32)
  | 0, _, _, _ => none
  | m + 1, y1, y2, σ => Option.bind (fm_X21_takes 80 σ) fun r6 => if r6.1 = 0 then (some (0, r6.2, 0)) else (Option.bind (fm_X21_variable n k0 r6.2) fun r12 => hv r12 (0) <| hk (inb y2 (gL r12.2.2 23 25)) <| hl (pC r12.2.2 23 25 y2 r12.2.1) fun σ18 => lp_X21_variables_7 n k0 m y1 r12.2.1 σ18)
/-- HomeCompilerModel.variables()I -/
def fm_X21_variables (n : Nat) (k0 : Nat)  (σ : hc_St) : Option (Nat × Int32 × hc_St) := Option.bind (fm_X21_variable n k0 σ) fun r1 => ht r1 <| Option.bind (lp_X21_variables_7 n k0 n r1.2.1 r1.2.1 r1.2.2) fun r19 => hu r19 <| some (0, r1.2.1, r19.2.1)
set_option maxRecDepth 20000 in
set_option maxHeartbeats 4000000 in
theorem ll_X21_variables_7 {l : Launch} {E : hc_E} {A : Nat → Prop} {am : Nat → Nat → Nat} {d : Nat} {X : hc_X} (n : Nat) (k0 : Nat) (hD : 1 * k0 + 20 ≤ d) (hem : X.2.2.2.2.2.2.2.2.2.1.exceptionTable.isEmpty = true) {oc : hc_Oc} {σe : hc_St} (hC : hc_C hc_V0 E cX21_variables 4 RX21 (some .int) d oc σe (l, A, am, []) X) : ∀ (m : Nat) (σ : hc_St) (y1 : Int32) (y2 : Int32) (rl : Nat × hc_St × Int32) (am1 : Nat → Nat → Nat), lp_X21_variables_7 n k0 m y1 y2 σ = some rl → (rl.1 = 0 → hc_At hc_V0 E 4 X 33 [(1, .int y1)] [] rl.2.1 am1 []) → (rl.1 ≠ 0 → hc_C hc_V0 E cX21_variables 4 RX21 (some .int) d (.inr rl.1) rl.2.1 (l, A, am, []) X) → hc_At hc_V0 E 4 X 7 [(0, .ref (E.2.1 23)), (1, .int y1), (2, .int y2)] [] σ am1 [] := by
  have hd1 : 1 ≤ d := by omega
  have hd8 : 9 ≤ d := by omega
  have hd12 : 12 ≤ d := by omega
  intro m
  induction m with
  | zero =>
    intro σ y1 y2 rl am1 h
    cases h
  | succ m ih =>
    intro σ y1 y2 rl am1 h JX HX
    rw [lp_X21_variables_7] at h
    refine hr_aload_n hC dX21_variables_7 rfl ?_
    refine hr_ldcs (v := 80) 80 hC dX21_variables_8 (List.mem_of_getElem? (i := 80) rfl) (by decide) rfl ?_
    obtain ⟨r6, e7, h⟩ := hx_bind h
    refine hs_callV0 hC 23 [_] _ dX21_variables_10 q3231 q3233 qs195 q335 q3234 np_X21 rfl OB_23 pd_X21_takes (Nat.le_of_ble_eq_true rfl) hd1 (okX21_takes l E A (d - 1)  (by omega)  e7 am1) rfl ?_
    refine hr_if_eq (x := _) hC 33 dX21_variables_13 (by decide) (fun c11 => ?_) (fun c11 => ?_)
    · rw [if_pos c11] at h
      obtain rfl := Option.some.inj h
      exact hr_sub _ rfl (JX rfl)
    · rw [if_neg c11] at h
      refine hr_aload_n hC dX21_variables_16 rfl ?_
      obtain ⟨r12, e13, h⟩ := hx_bind h
      by_cases z16 : r12.1 = 0
      · rw [hv_0 z16] at h
        refine hs_callV0 hC 23 [] _ dX21_variables_17 q3338 q3340 qs221 q335 q3341 np_X21 rfl OB_23 pd_X21_variable (Nat.le_of_ble_eq_true rfl) hd1 (hc_M0 (r := r12) (okX21_variable l E A (d - 1) n k0 (by omega)  e13 am1) z16) rfl ?_
        refine hr_istore_n hC dX21_variables_20 (by decide) ?_
        refine hr_aload_n hC dX21_variables_21 rfl ?_
        refine hr_gA hC F23_25 rfl dX21_variables_22 q2867 ?_
        refine hr_iload_n hC dX21_variables_25 rfl ?_
        refine hr_iload_n hC dX21_variables_26 rfl ?_
        obtain ⟨c17, h⟩ := hk_ok h
        obtain ⟨σ18, hσ18, h⟩ := hl_ok h
        refine hs_iast hC A23_25 c17 dX21_variables_27 ?_
        rw [← hσ18]
        refine hr_iload_n hC dX21_variables_28 rfl ?_
        refine hr_istore_n hC dX21_variables_29 (by decide) ?_
        refine hr_goto hC 7 dX21_variables_30 (by decide) ?_
        exact hr_sub _ rfl (ih _ _ _ _ am1 h JX HX)
      · rw [hv_1 z16] at h
        obtain rfl := Option.some.inj h
        exact hs_callVx (HX z16) hem 23 [] _ dX21_variables_17 q3338 q3340 qs221 q335 q3341 np_X21 rfl OB_23 pd_X21_variable (Nat.le_of_ble_eq_true rfl) hd1 (hc_M1 (r := r12) (okX21_variable l E A (d - 1) n k0 (by omega)  e13 am1) z16) (hc_rb rfl) rfl
set_option maxRecDepth 20000 in
set_option maxHeartbeats 4000000 in
theorem okX21_variables (l : Launch) (E : hc_E) (A : Nat → Prop) (d : Nat) (n : Nat) (k0 : Nat) (hD : 1 * k0 + 20 ≤ d)  {σ : hc_St} {r : (Nat × Int32 × hc_St)} (h : fm_X21_variables n k0  σ = some r) (am : Nat → Nat → Nat) : hc_M l hc_V0 yX21_variables (ws_ yX21_variables cX21_variables 4 (some .int)) d E A [.ref (E.2.1 23)] am [] σ (hc_ot (fun v => some (.int v)) r) r.2.2 := by
  have hd1 : 1 ≤ d := by omega
  have hd8 : 9 ≤ d := by omega
  have hd12 : 12 ≤ d := by omega
  refine hc_enter2 (own := RX21) [(0, .ref (E.2.1 23))] pl_X21 rfl hc_V0_st hc_G0_nd rfl (Nat.le_of_ble_eq_true rfl) (fun X hC hem => ?_)
  have HX := fun z => hc_CX hC z
  unfold fm_X21_variables at h
  refine hr_aload_n hC dX21_variables_0 rfl ?_
  obtain ⟨r1, e2, h⟩ := hx_bind h
  by_cases z5 : r1.1 = 0
  · rw [ht_0 z5] at h
    refine hs_callV0 hC 23 [] _ dX21_variables_1 q3338 q3340 qs221 q335 q3341 np_X21 rfl OB_23 pd_X21_variable (Nat.le_of_ble_eq_true rfl) hd1 (hc_M0 (r := r1) (okX21_variable l E A (d - 1) n k0 (by omega)  e2 am) z5) rfl ?_
    refine hr_istore_n hC dX21_variables_4 (by decide) ?_
    refine hr_iload_n hC dX21_variables_5 rfl ?_
    refine hr_istore_n hC dX21_variables_6 (by decide) ?_
    obtain ⟨r19, e20, h⟩ := hx_bind h
    refine hr_sub _ rfl (ll_X21_variables_7 n k0 hD hem hC n _ _ _ _ am e20 (fun z22 => ?_) (fun z22 => ?_))
    · rw [hu_0 z22] at h
      refine hr_iload_n hC dX21_variables_33 rfl ?_
      obtain rfl := Option.some.inj h
      exact hr_iret hC dX21_variables_34
    · rw [hu_1 z22] at h
      obtain rfl := Option.some.inj h
      exact HX z22
  · rw [ht_1 z5] at h
    obtain rfl := Option.some.inj h
    exact hs_callVx (HX z5) hem 23 [] _ dX21_variables_1 q3338 q3340 qs221 q335 q3341 np_X21 rfl OB_23 pd_X21_variable (Nat.le_of_ble_eq_true rfl) hd1 (hc_M1 (r := r1) (okX21_variable l E A (d - 1) n k0 (by omega)  e2 am) z5) (hc_rb rfl) rfl
/-- HomeCompilerModel.declaration()I -/
def fm_X21_declaration (n : Nat) (k0 : Nat)  (σ : hc_St) : Option (Nat × Int32 × hc_St) := Option.bind (fm_X21_make 23 ((gI σ 23 15)) σ) fun r1 => hk (inb ((gI r1.2 23 15)) (gL r1.2 23 14)) <| hk (inb r1.1 (gL r1.2 23 26)) <| hl (pC r1.2 23 26 r1.1 ((gC r1.2 23 14 ((gI r1.2 23 15))))) fun σ7 => hl (pI σ7 23 15 ((((gI σ7 23 15)) + 1))) fun σ8 => Option.bind (fm_X21_variables n k0 σ8) fun r9 => ht r9 <| hk (inb r1.1 (gL r9.2.2 23 21)) <| hl (pC r9.2.2 23 21 r1.1 r9.2.1) fun σ15 => Option.bind (fm_X21_take 81 σ15) fun r16 => ht r16 <| some (0, r1.1, r16.2.2)
set_option maxRecDepth 20000 in
set_option maxHeartbeats 4000000 in
theorem okX21_declaration (l : Launch) (E : hc_E) (A : Nat → Prop) (d : Nat) (n : Nat) (k0 : Nat) (hD : 1 * k0 + 21 ≤ d)  {σ : hc_St} {r : (Nat × Int32 × hc_St)} (h : fm_X21_declaration n k0  σ = some r) (am : Nat → Nat → Nat) : hc_M l hc_V0 yX21_declaration (ws_ yX21_declaration cX21_declaration 2 (some .int)) d E A [.ref (E.2.1 23)] am [] σ (hc_ot (fun v => some (.int v)) r) r.2.2 := by
  have hd1 : 1 ≤ d := by omega
  have hd8 : 9 ≤ d := by omega
  have hd12 : 12 ≤ d := by omega
  refine hc_enter2 (own := RX21) [(0, .ref (E.2.1 23))] pl_X21 rfl hc_V0_st hc_G0_nd rfl (Nat.le_of_ble_eq_true rfl) (fun X hC hem => ?_)
  have HX := fun z => hc_CX hC z
  unfold fm_X21_declaration at h
  refine hr_aload_n hC dX21_declaration_0 rfl ?_
  refine hr_bipush (v := 23) hC dX21_declaration_1 rfl ?_
  refine hr_aload_n hC dX21_declaration_3 rfl ?_
  refine hr_gI hC F23_15 dX21_declaration_4 q2857 ?_
  obtain ⟨r1, e2, h⟩ := hx_bind h
  refine hs_callV0 hC 23 [_, _] _ dX21_declaration_7 q3194 q3196 qs188 q335 q3197 np_X21 rfl OB_23 pd_X21_make (Nat.le_of_ble_eq_true rfl) hd1 (okX21_make l E A (d - 1)  (by omega)  e2 am) rfl ?_
  refine hr_istore_n hC dX21_declaration_10 (by decide) ?_
  refine hr_aload_n hC dX21_declaration_11 rfl ?_
  refine hr_gA hC F23_26 rfl dX21_declaration_12 q2868 ?_
  refine hr_iload_n hC dX21_declaration_15 rfl ?_
  refine hr_aload_n hC dX21_declaration_16 rfl ?_
  refine hr_gA hC F23_14 rfl dX21_declaration_17 q2856 ?_
  refine hr_aload_n hC dX21_declaration_20 rfl ?_
  refine hr_gI hC F23_15 dX21_declaration_21 q2857 ?_
  obtain ⟨c5, h⟩ := hk_ok h
  refine hs_iald hC A23_14 c5 dX21_declaration_24 ?_
  obtain ⟨c6, h⟩ := hk_ok h
  obtain ⟨σ7, hσ7, h⟩ := hl_ok h
  refine hs_iast hC A23_26 c6 dX21_declaration_25 ?_
  rw [← hσ7]
  refine hr_aload_n hC dX21_declaration_26 rfl ?_
  refine hr_dup hC dX21_declaration_27 rfl ?_
  refine hr_gI hC F23_15 dX21_declaration_28 q2857 ?_
  refine hr_iconst (v := 1) hC dX21_declaration_31 rfl ?_
  refine hr_iadd hC dX21_declaration_32 ?_
  obtain ⟨σ8, hσ8, h⟩ := hl_ok h
  refine hr_pI hC F23_15 PX21_15 dX21_declaration_33 q2857 ?_
  rw [← hσ8]
  refine hr_aload_n hC dX21_declaration_36 rfl ?_
  refine hr_gA hC F23_21 rfl dX21_declaration_37 q2863 ?_
  refine hr_iload_n hC dX21_declaration_40 rfl ?_
  refine hr_aload_n hC dX21_declaration_41 rfl ?_
  obtain ⟨r9, e10, h⟩ := hx_bind h
  by_cases z13 : r9.1 = 0
  · rw [ht_0 z13] at h
    refine hs_callV0 hC 23 [] _ dX21_declaration_42 q3334 q3336 qs220 q335 q3337 np_X21 rfl OB_23 pd_X21_variables (Nat.le_of_ble_eq_true rfl) hd1 (hc_M0 (r := r9) (okX21_variables l E A (d - 1) n k0 (by omega)  e10 am) z13) rfl ?_
    obtain ⟨c14, h⟩ := hk_ok h
    obtain ⟨σ15, hσ15, h⟩ := hl_ok h
    refine hs_iast hC A23_21 c14 dX21_declaration_45 ?_
    rw [← hσ15]
    refine hr_aload_n hC dX21_declaration_46 rfl ?_
    refine hr_ldcs (v := 81) 81 hC dX21_declaration_47 (List.mem_of_getElem? (i := 81) rfl) (by decide) rfl ?_
    obtain ⟨r16, e17, h⟩ := hx_bind h
    by_cases z20 : r16.1 = 0
    · rw [ht_0 z20] at h
      refine hs_callV0 hC 23 [_] _ dX21_declaration_49 q3282 q3284 qs207 q335 q3285 np_X21 rfl OB_23 pd_X21_take (Nat.le_of_ble_eq_true rfl) hd1 (hc_M0 (r := r16) (okX21_take l E A (d - 1)  (by omega)  e17 am) z20) rfl ?_
      refine hr_iload_n hC dX21_declaration_52 rfl ?_
      obtain rfl := Option.some.inj h
      exact hr_iret hC dX21_declaration_53
    · rw [ht_1 z20] at h
      obtain rfl := Option.some.inj h
      exact hs_callVx (HX z20) hem 23 [_] _ dX21_declaration_49 q3282 q3284 qs207 q335 q3285 np_X21 rfl OB_23 pd_X21_take (Nat.le_of_ble_eq_true rfl) hd1 (hc_M1 (r := r16) (okX21_take l E A (d - 1)  (by omega)  e17 am) z20) (hc_rb rfl) rfl
  · rw [ht_1 z13] at h
    obtain rfl := Option.some.inj h
    exact hs_callVx (HX z13) hem 23 [] _ dX21_declaration_42 q3334 q3336 qs220 q335 q3337 np_X21 rfl OB_23 pd_X21_variables (Nat.le_of_ble_eq_true rfl) hd1 (hc_M1 (r := r9) (okX21_variables l E A (d - 1) n k0 (by omega)  e10 am) z13) (hc_rb rfl) rfl
/-- HomeCompilerModel.inParentheses()I -/
def fm_X21_inParentheses (n : Nat) (k0 : Nat)  (σ : hc_St) : Option (Nat × Int32 × hc_St) := Option.bind (fm_X21_opensMark 74 σ) fun r1 => ht r1 <| Option.bind (fm_X21_expression n k0 r1.2.2) fun r6 => ht r6 <| Option.bind (fm_X21_closes 75 r6.2.2) fun r11 => ht r11 <| some (0, r6.2.1, r11.2.2)
set_option maxRecDepth 20000 in
set_option maxHeartbeats 4000000 in
theorem okX21_inParentheses (l : Launch) (E : hc_E) (A : Nat → Prop) (d : Nat) (n : Nat) (k0 : Nat) (hD : 1 * k0 + 17 ≤ d)  {σ : hc_St} {r : (Nat × Int32 × hc_St)} (h : fm_X21_inParentheses n k0  σ = some r) (am : Nat → Nat → Nat) : hc_M l hc_V0 yX21_inParentheses (ws_ yX21_inParentheses cX21_inParentheses 2 (some .int)) d E A [.ref (E.2.1 23)] am [] σ (hc_ot (fun v => some (.int v)) r) r.2.2 := by
  have hd1 : 1 ≤ d := by omega
  have hd8 : 9 ≤ d := by omega
  have hd12 : 12 ≤ d := by omega
  refine hc_enter2 (own := RX21) [(0, .ref (E.2.1 23))] pl_X21 rfl hc_V0_st hc_G0_nd rfl (Nat.le_of_ble_eq_true rfl) (fun X hC hem => ?_)
  have HX := fun z => hc_CX hC z
  unfold fm_X21_inParentheses at h
  refine hr_aload_n hC dX21_inParentheses_0 rfl ?_
  refine hr_ldcs (v := 74) 74 hC dX21_inParentheses_1 (List.mem_of_getElem? (i := 74) rfl) (by decide) rfl ?_
  obtain ⟨r1, e2, h⟩ := hx_bind h
  by_cases z5 : r1.1 = 0
  · rw [ht_0 z5] at h
    refine hs_callV0 hC 23 [_] _ dX21_inParentheses_3 q3198 q3200 qs189 q335 q3201 np_X21 rfl OB_23 pd_X21_opensMark (Nat.le_of_ble_eq_true rfl) hd1 (hc_M0 (r := r1) (okX21_opensMark l E A (d - 1)  (by omega)  e2 am) z5) rfl ?_
    refine hr_aload_n hC dX21_inParentheses_6 rfl ?_
    obtain ⟨r6, e7, h⟩ := hx_bind h
    by_cases z10 : r6.1 = 0
    · rw [ht_0 z10] at h
      refine hs_callV0 hC 23 [] _ dX21_inParentheses_7 q3263 q3265 qs203 q335 q3266 np_X21 rfl OB_23 pd_X21_expression (Nat.le_of_ble_eq_true rfl) hd1 (hc_M0 (r := r6) (okX21_expression l E A (d - 1) n k0 (by omega)  e7 am) z10) rfl ?_
      refine hr_istore_n hC dX21_inParentheses_10 (by decide) ?_
      refine hr_aload_n hC dX21_inParentheses_11 rfl ?_
      refine hr_ldcs (v := 75) 75 hC dX21_inParentheses_12 (List.mem_of_getElem? (i := 75) rfl) (by decide) rfl ?_
      obtain ⟨r11, e12, h⟩ := hx_bind h
      by_cases z15 : r11.1 = 0
      · rw [ht_0 z15] at h
        refine hs_callV0 hC 23 [_] _ dX21_inParentheses_14 q3278 q3280 qs206 q335 q3281 np_X21 rfl OB_23 pd_X21_closes (Nat.le_of_ble_eq_true rfl) hd1 (hc_M0 (r := r11) (okX21_closes l E A (d - 1)  (by omega)  e12 am) z15) rfl ?_
        refine hr_iload_n hC dX21_inParentheses_17 rfl ?_
        obtain rfl := Option.some.inj h
        exact hr_iret hC dX21_inParentheses_18
      · rw [ht_1 z15] at h
        obtain rfl := Option.some.inj h
        exact hs_callVx (HX z15) hem 23 [_] _ dX21_inParentheses_14 q3278 q3280 qs206 q335 q3281 np_X21 rfl OB_23 pd_X21_closes (Nat.le_of_ble_eq_true rfl) hd1 (hc_M1 (r := r11) (okX21_closes l E A (d - 1)  (by omega)  e12 am) z15) (hc_rb rfl) rfl
    · rw [ht_1 z10] at h
      obtain rfl := Option.some.inj h
      exact hs_callVx (HX z10) hem 23 [] _ dX21_inParentheses_7 q3263 q3265 qs203 q335 q3266 np_X21 rfl OB_23 pd_X21_expression (Nat.le_of_ble_eq_true rfl) hd1 (hc_M1 (r := r6) (okX21_expression l E A (d - 1) n k0 (by omega)  e7 am) z10) (hc_rb rfl) rfl
  · rw [ht_1 z5] at h
    obtain rfl := Option.some.inj h
    exact hs_callVx (HX z5) hem 23 [_] _ dX21_inParentheses_3 q3198 q3200 qs189 q335 q3201 np_X21 rfl OB_23 pd_X21_opensMark (Nat.le_of_ble_eq_true rfl) hd1 (hc_M1 (r := r1) (okX21_opensMark l E A (d - 1)  (by omega)  e2 am) z5) (hc_rb rfl) rfl
/-- HomeCompilerModel.takesKey(I)Z -/
def fm_X21_takesKey  (x1 : Int32) (σ : hc_St) : Option (Int32 × hc_St) := Option.bind (fm_X21_isKey x1 σ) fun r1 => hl (α := Int32) ((if r1 = 0 then (gI σ 23 15) else (((gI σ 23 15)) + 1))) fun v7 => hl (pI σ 23 15 v7) fun σ8 => hk (hb01 r1) <| some (r1, σ8)
set_option maxRecDepth 20000 in
set_option maxHeartbeats 4000000 in
theorem okX21_takesKey (l : Launch) (E : hc_E) (A : Nat → Prop) (d : Nat)  (hD : 2 ≤ d) {x1 : Int32} {σ : hc_St} {r : (Int32 × hc_St)} (h : fm_X21_takesKey  x1 σ = some r) (am : Nat → Nat → Nat) : hc_M l hc_V0 yX21_takesKey (ws_ yX21_takesKey cX21_takesKey 3 (some .boolean)) d E A [.ref (E.2.1 23), .int x1] am [] σ (.inl (some (.int r.1))) r.2 := by
  have hd1 : 1 ≤ d := by omega
  refine hc_enter2 (own := RX21) [(0, .ref (E.2.1 23)), (1, .int x1)] pl_X21 rfl hc_V0_st hc_G0_nd rfl (Nat.le_of_ble_eq_true rfl) (fun X hC hem => ?_)
  unfold fm_X21_takesKey at h
  refine hr_aload_n hC dX21_takesKey_0 rfl ?_
  refine hr_iload_n hC dX21_takesKey_1 rfl ?_
  obtain ⟨r1, e2, h⟩ := hx_bind h
  refine hs_callV0 hC 23 [_] _ dX21_takesKey_2 q3186 q3188 qs186 q335 q3189 np_X21 rfl OB_23 pd_X21_isKey (Nat.le_of_ble_eq_true rfl) hd1 (okX21_isKey l E A (d - 1)  (by omega)  e2 am) rfl ?_
  refine hr_istore_n hC dX21_takesKey_5 (by decide) ?_
  refine hr_aload_n hC dX21_takesKey_6 rfl ?_
  refine hr_iload_n hC dX21_takesKey_7 rfl ?_
  obtain ⟨v7, hv7, h⟩ := hl_ok h
  have J10 : ∀ w11 : Int32, (if r1 = 0 then (gI σ 23 15) else (((gI σ 23 15)) + 1)) = w11 → hc_At hc_V0 E 3 X 24 [(2, .int r1)] [.int w11, .ref (E.2.1 23)] σ am [] := by
    intro w11 hw11
    obtain rfl := hv7.trans hw11
    obtain ⟨σ8, hσ8, h⟩ := hl_ok h
    refine hr_pI hC F23_15 PX21_15 dX21_takesKey_24 q2857 ?_
    rw [← hσ8]
    refine hr_iload_n hC dX21_takesKey_27 rfl ?_
    obtain ⟨c9, h⟩ := hk_ok h
    obtain rfl := Option.some.inj h
    exact hr_zret hC (hb01_n c9) dX21_takesKey_28
  refine hr_if_eq (x := _) hC 20 dX21_takesKey_8 (by decide) (fun c12 => ?_) (fun c12 => ?_)
  · refine hr_aload_n hC dX21_takesKey_20 rfl ?_
    refine hr_gI hC F23_15 dX21_takesKey_21 q2857 ?_
    exact hr_sub _ rfl (J10 _ (by first | (rw [if_pos c12]; done) | (simp only [if_pos c12]; done) | rfl))
  · refine hr_aload_n hC dX21_takesKey_11 rfl ?_
    refine hr_gI hC F23_15 dX21_takesKey_12 q2857 ?_
    refine hr_iconst (v := 1) hC dX21_takesKey_15 rfl ?_
    refine hr_iadd hC dX21_takesKey_16 ?_
    refine hr_goto hC 24 dX21_takesKey_17 (by decide) ?_
    exact hr_sub _ rfl (J10 _ (by first | (rw [if_neg c12]; done) | (simp only [if_neg c12]; done) | rfl))
def okg_X21_block (l : Launch) (E : hc_E) (A : Nat → Prop) (d : Nat) (am : Nat → Nat → Nat) (w : Nat) (a : List Int32) (σ : hc_St) (r : (Nat × Int32 × hc_St)) : Prop := match w with
  | 0 => hc_M l hc_V0 yX21_block (ws_ yX21_block cX21_block 4 (some .int)) d E A [.ref (E.2.1 23)] am [] σ (hc_ot (fun v => some (.int v)) r) r.2.2
  | 1 => hc_M l hc_V0 yX21_statement (ws_ yX21_statement cX21_statement 2 (some .int)) d E A [.ref (E.2.1 23)] am [] σ (hc_ot (fun v => some (.int v)) r) r.2.2
  | 2 => hc_M l hc_V0 yX21_byKey (ws_ yX21_byKey cX21_byKey 3 (some .int)) d E A [.ref (E.2.1 23), .int (a.getD 0 0)] am [] σ (hc_ot (fun v => some (.int v)) r) r.2.2
  | 3 => hc_M l hc_V0 yX21_conditioned (ws_ yX21_conditioned cX21_conditioned 3 (some .int)) d E A [.ref (E.2.1 23), .int (a.getD 0 0)] am [] σ (hc_ot (fun v => some (.int v)) r) r.2.2
  | 4 => hc_M l hc_V0 yX21_doing (ws_ yX21_doing cX21_doing 2 (some .int)) d E A [.ref (E.2.1 23)] am [] σ (hc_ot (fun v => some (.int v)) r) r.2.2
  | 5 => hc_M l hc_V0 yX21_forLoop (ws_ yX21_forLoop cX21_forLoop 3 (some .int)) d E A [.ref (E.2.1 23)] am [] σ (hc_ot (fun v => some (.int v)) r) r.2.2
  | 6 => hc_M l hc_V0 yX21_switching (ws_ yX21_switching cX21_switching 4 (some .int)) d E A [.ref (E.2.1 23)] am [] σ (hc_ot (fun v => some (.int v)) r) r.2.2
  | _ => True
def lp_X21_block_19 (n : Nat) (k0 : Nat) (rec : Nat → List Int32 → hc_St → Option (Nat × Int32 × hc_St)) : Nat → Int32 → Int32 → hc_St → Option (Nat × hc_St × Int32)
  | 0, _, _, _ => none
  | m + 1, y1, y2, σ => Option.bind (fm_X21_is 77 σ) fun r10 => if r10 = 0 then (Option.bind (rec 1 [] σ) fun r16 => hv r16 (0) <| hk (inb y1 (gL r16.2.2 23 21)) <| Option.bind (fm_X21_hang ((gC r16.2.2 23 21 y1)) y2 r16.2.1 r16.2.2) fun r22 => hk (inb y1 (gL r22.2 23 21)) <| hl (pC r22.2 23 21 y1 r22.1) fun σ27 => lp_X21_block_19 n k0 rec m y1 r16.2.1 σ27) else (some (0, σ, 0))
/-- HomeCompilerModel.block()I -/
def bd_X21_block (n : Nat) (k0 : Nat) (rec : Nat → List Int32 → hc_St → Option (Nat × Int32 × hc_St))  (σ : hc_St) : Option (Nat × Int32 × hc_St) := Option.bind (fm_X21_make 20 ((gI σ 23 15)) σ) fun r1 => Option.bind (fm_X21_opensMark 76 r1.2) fun r5 => ht r5 <| Option.bind (lp_X21_block_19 n k0 rec n r1.1 ((-1)) r5.2.2) fun r28 => hu r28 <| Option.bind (fm_X21_closes 77 r28.2.1) fun r33 => ht r33 <| some (0, r1.1, r33.2.2)
set_option maxRecDepth 20000 in
set_option maxHeartbeats 4000000 in
theorem ll_X21_block_19 {l : Launch} {E : hc_E} {A : Nat → Prop} {am : Nat → Nat → Nat} {d : Nat} {kk : Nat} {X : hc_X} (n : Nat) (k0 : Nat) (rec : Nat → List Int32 → hc_St → Option (Nat × Int32 × hc_St)) (hD : kk + 1 * k0 + 22 ≤ d) (hem : X.2.2.2.2.2.2.2.2.2.1.exceptionTable.isEmpty = true) (IH : ∀ (w : Nat) (a : List Int32) (σ : hc_St) (r : (Nat × Int32 × hc_St)), rec w a σ = some r → ∀ am, okg_X21_block l E A (d - 1) am w a σ r) {oc : hc_Oc} {σe : hc_St} (hC : hc_C hc_V0 E cX21_block 4 RX21 (some .int) d oc σe (l, A, am, []) X) : ∀ (m : Nat) (σ : hc_St) (y1 : Int32) (y2 : Int32) (rl : Nat × hc_St × Int32) (am1 : Nat → Nat → Nat), lp_X21_block_19 n k0 rec m y1 y2 σ = some rl → (rl.1 = 0 → hc_At hc_V0 E 4 X 56 [(0, .ref (E.2.1 23)), (1, .int y1)] [] rl.2.1 am1 []) → (rl.1 ≠ 0 → hc_C hc_V0 E cX21_block 4 RX21 (some .int) d (.inr rl.1) rl.2.1 (l, A, am, []) X) → hc_At hc_V0 E 4 X 19 [(0, .ref (E.2.1 23)), (1, .int y1), (2, .int y2)] [] σ am1 [] := by
  have hd1 : 1 ≤ d := by omega
  have hd8 : 9 ≤ d := by omega
  have hd12 : 12 ≤ d := by omega
  intro m
  induction m with
  | zero =>
    intro σ y1 y2 rl am1 h
    cases h
  | succ m ih =>
    intro σ y1 y2 rl am1 h JX HX
    rw [lp_X21_block_19] at h
    refine hr_aload_n hC dX21_block_19 rfl ?_
    refine hr_ldcs (v := 77) 77 hC dX21_block_20 (List.mem_of_getElem? (i := 77) rfl) (by decide) rfl ?_
    obtain ⟨r10, e11, h⟩ := hx_bind h
    refine hs_callV0 hC 23 [_] _ dX21_block_22 q3202 q3204 qs190 q335 q3205 np_X21 rfl OB_23 pd_X21_is (Nat.le_of_ble_eq_true rfl) hd1 (okX21_is l E A (d - 1)  (by omega)  e11 am1) rfl ?_
    refine hr_if_ne (x := _) hC 56 dX21_block_25 (by decide) (fun c15 => ?_) (fun c15 => ?_)
    · rw [if_neg c15] at h
      obtain rfl := Option.some.inj h
      exact hr_sub _ rfl (JX rfl)
    · rw [if_pos c15] at h
      refine hr_aload_n hC dX21_block_28 rfl ?_
      obtain ⟨r16, e17, h⟩ := hx_bind h
      by_cases z20 : r16.1 = 0
      · rw [hv_0 z20] at h
        refine hs_callV0 hC 23 [] _ dX21_block_29 q3326 q3328 qs218 q335 q3329 np_X21 rfl OB_23 pd_X21_statement (Nat.le_of_ble_eq_true rfl) hd1 (hc_M0 (r := r16) (IH _ _ _ _ e17 am1) z20) rfl ?_
        refine hr_istore_n hC dX21_block_32 (by decide) ?_
        refine hr_aload_n hC dX21_block_33 rfl ?_
        refine hr_gA hC F23_21 rfl dX21_block_34 q2863 ?_
        refine hr_iload_n hC dX21_block_37 rfl ?_
        refine hr_aload_n hC dX21_block_38 rfl ?_
        refine hr_aload_n hC dX21_block_39 rfl ?_
        refine hr_gA hC F23_21 rfl dX21_block_40 q2863 ?_
        refine hr_iload_n hC dX21_block_43 rfl ?_
        obtain ⟨c21, h⟩ := hk_ok h
        refine hs_iald hC A23_21 c21 dX21_block_44 ?_
        refine hr_iload_n hC dX21_block_45 rfl ?_
        refine hr_iload_n hC dX21_block_46 rfl ?_
        obtain ⟨r22, e23, h⟩ := hx_bind h
        refine hs_callV0 hC 23 [_, _, _] _ dX21_block_47 q3302 q3304 qs212 q335 q3305 np_X21 rfl OB_23 pd_X21_hang (Nat.le_of_ble_eq_true rfl) hd1 (okX21_hang l E A (d - 1)  (by omega)  e23 am1) rfl ?_
        obtain ⟨c26, h⟩ := hk_ok h
        obtain ⟨σ27, hσ27, h⟩ := hl_ok h
        refine hs_iast hC A23_21 c26 dX21_block_50 ?_
        rw [← hσ27]
        refine hr_iload_n hC dX21_block_51 rfl ?_
        refine hr_istore_n hC dX21_block_52 (by decide) ?_
        refine hr_goto hC 19 dX21_block_53 (by decide) ?_
        exact hr_sub _ rfl (ih _ _ _ _ am1 h JX HX)
      · rw [hv_1 z20] at h
        obtain rfl := Option.some.inj h
        exact hs_callVx (HX z20) hem 23 [] _ dX21_block_29 q3326 q3328 qs218 q335 q3329 np_X21 rfl OB_23 pd_X21_statement (Nat.le_of_ble_eq_true rfl) hd1 (hc_M1 (r := r16) (IH _ _ _ _ e17 am1) z20) (hc_rb rfl) rfl
set_option maxRecDepth 20000 in
set_option maxHeartbeats 4000000 in
theorem okbX21_block (l : Launch) (E : hc_E) (A : Nat → Prop) (d : Nat) {kk : Nat} (n : Nat) (k0 : Nat) (rec : Nat → List Int32 → hc_St → Option (Nat × Int32 × hc_St)) (hD : kk + 1 * k0 + 22 ≤ d) (IH : ∀ (w : Nat) (a : List Int32) (σ : hc_St) (r : (Nat × Int32 × hc_St)), rec w a σ = some r → ∀ am, okg_X21_block l E A (d - 1) am w a σ r)  {σ : hc_St} {r : (Nat × Int32 × hc_St)} (h : bd_X21_block n k0 rec  σ = some r) (am : Nat → Nat → Nat) : hc_M l hc_V0 yX21_block (ws_ yX21_block cX21_block 4 (some .int)) d E A [.ref (E.2.1 23)] am [] σ (hc_ot (fun v => some (.int v)) r) r.2.2 := by
  have hd1 : 1 ≤ d := by omega
  have hd8 : 9 ≤ d := by omega
  have hd12 : 12 ≤ d := by omega
  refine hc_enter2 (own := RX21) [(0, .ref (E.2.1 23))] pl_X21 rfl hc_V0_st hc_G0_nd rfl (Nat.le_of_ble_eq_true rfl) (fun X hC hem => ?_)
  have HX := fun z => hc_CX hC z
  unfold bd_X21_block at h
  refine hr_aload_n hC dX21_block_0 rfl ?_
  refine hr_bipush (v := 20) hC dX21_block_1 rfl ?_
  refine hr_aload_n hC dX21_block_3 rfl ?_
  refine hr_gI hC F23_15 dX21_block_4 q2857 ?_
  obtain ⟨r1, e2, h⟩ := hx_bind h
  refine hs_callV0 hC 23 [_, _] _ dX21_block_7 q3194 q3196 qs188 q335 q3197 np_X21 rfl OB_23 pd_X21_make (Nat.le_of_ble_eq_true rfl) hd1 (okX21_make l E A (d - 1)  (by omega)  e2 am) rfl ?_
  refine hr_istore_n hC dX21_block_10 (by decide) ?_
  refine hr_aload_n hC dX21_block_11 rfl ?_
  refine hr_ldcs (v := 76) 76 hC dX21_block_12 (List.mem_of_getElem? (i := 76) rfl) (by decide) rfl ?_
  obtain ⟨r5, e6, h⟩ := hx_bind h
  by_cases z9 : r5.1 = 0
  · rw [ht_0 z9] at h
    refine hs_callV0 hC 23 [_] _ dX21_block_14 q3198 q3200 qs189 q335 q3201 np_X21 rfl OB_23 pd_X21_opensMark (Nat.le_of_ble_eq_true rfl) hd1 (hc_M0 (r := r5) (okX21_opensMark l E A (d - 1)  (by omega)  e6 am) z9) rfl ?_
    refine hr_iconst (v := (-1)) hC dX21_block_17 rfl ?_
    refine hr_istore_n hC dX21_block_18 (by decide) ?_
    obtain ⟨r28, e29, h⟩ := hx_bind h
    refine hr_sub _ rfl (ll_X21_block_19 n k0 rec hD hem IH hC n _ _ _ _ am e29 (fun z31 => ?_) (fun z31 => ?_))
    · rw [hu_0 z31] at h
      refine hr_aload_n hC dX21_block_56 rfl ?_
      refine hr_ldcs (v := 77) 77 hC dX21_block_57 (List.mem_of_getElem? (i := 77) rfl) (by decide) rfl ?_
      obtain ⟨r33, e34, h⟩ := hx_bind h
      by_cases z37 : r33.1 = 0
      · rw [ht_0 z37] at h
        refine hs_callV0 hC 23 [_] _ dX21_block_59 q3278 q3280 qs206 q335 q3281 np_X21 rfl OB_23 pd_X21_closes (Nat.le_of_ble_eq_true rfl) hd1 (hc_M0 (r := r33) (okX21_closes l E A (d - 1)  (by omega)  e34 am) z37) rfl ?_
        refine hr_iload_n hC dX21_block_62 rfl ?_
        obtain rfl := Option.some.inj h
        exact hr_iret hC dX21_block_63
      · rw [ht_1 z37] at h
        obtain rfl := Option.some.inj h
        exact hs_callVx (HX z37) hem 23 [_] _ dX21_block_59 q3278 q3280 qs206 q335 q3281 np_X21 rfl OB_23 pd_X21_closes (Nat.le_of_ble_eq_true rfl) hd1 (hc_M1 (r := r33) (okX21_closes l E A (d - 1)  (by omega)  e34 am) z37) (hc_rb rfl) rfl
    · rw [hu_1 z31] at h
      obtain rfl := Option.some.inj h
      exact HX z31
  · rw [ht_1 z9] at h
    obtain rfl := Option.some.inj h
    exact hs_callVx (HX z9) hem 23 [_] _ dX21_block_14 q3198 q3200 qs189 q335 q3201 np_X21 rfl OB_23 pd_X21_opensMark (Nat.le_of_ble_eq_true rfl) hd1 (hc_M1 (r := r5) (okX21_opensMark l E A (d - 1)  (by omega)  e6 am) z9) (hc_rb rfl) rfl
/-- HomeCompilerModel.statement()I -/
def bd_X21_statement (n : Nat) (k0 : Nat) (rec : Nat → List Int32 → hc_St → Option (Nat × Int32 × hc_St))  (σ : hc_St) : Option (Nat × Int32 × hc_St) := Option.bind (fm_X21_is 76 σ) fun r1 => if r1 = 0 then (Option.bind (fm_X21_is 81 σ) fun r7 => if r7 = 0 then (Option.bind (fm_X21_isType  σ) fun r13 => if r13 = 0 then (hk (inb ((gI σ 23 15)) (gL σ 23 13)) <| if (gC σ 23 13 ((gI σ 23 15))).toInt8.toInt32 = 2 then (hk (inb ((gI σ 23 15)) (gL σ 23 14)) <| Option.bind (rec 2 [((gC σ 23 14 ((gI σ 23 15))))] σ) fun r39 => ht r39 <| some (0, r39.2.1, r39.2.2)) else (Option.bind (fm_X21_make 22 ((gI σ 23 15)) σ) fun r22 => Option.bind (fm_X21_expression n k0 r22.2) fun r26 => ht r26 <| hk (inb r22.1 (gL r26.2.2 23 21)) <| hl (pC r26.2.2 23 21 r22.1 r26.2.1) fun σ32 => Option.bind (fm_X21_take 81 σ32) fun r33 => ht r33 <| some (0, r22.1, r33.2.2))) else (Option.bind (fm_X21_declaration n k0 σ) fun r44 => ht r44 <| some (0, r44.2.1, r44.2.2))) else (hl (pI σ 23 15 ((((gI σ 23 15)) + 1))) fun σ49 => Option.bind (fm_X21_make 21 ((((gI σ49 23 15)) - 1)) σ49) fun r50 => some (0, r50.1, r50.2))) else (Option.bind (rec 0 [] σ) fun r54 => ht r54 <| some (0, r54.2.1, r54.2.2))
set_option maxRecDepth 20000 in
set_option maxHeartbeats 4000000 in
theorem okbX21_statement (l : Launch) (E : hc_E) (A : Nat → Prop) (d : Nat) {kk : Nat} (n : Nat) (k0 : Nat) (rec : Nat → List Int32 → hc_St → Option (Nat × Int32 × hc_St)) (hD : kk + 1 * k0 + 22 ≤ d) (IH : ∀ (w : Nat) (a : List Int32) (σ : hc_St) (r : (Nat × Int32 × hc_St)), rec w a σ = some r → ∀ am, okg_X21_block l E A (d - 1) am w a σ r)  {σ : hc_St} {r : (Nat × Int32 × hc_St)} (h : bd_X21_statement n k0 rec  σ = some r) (am : Nat → Nat → Nat) : hc_M l hc_V0 yX21_statement (ws_ yX21_statement cX21_statement 2 (some .int)) d E A [.ref (E.2.1 23)] am [] σ (hc_ot (fun v => some (.int v)) r) r.2.2 := by
  have hd1 : 1 ≤ d := by omega
  have hd8 : 9 ≤ d := by omega
  have hd12 : 12 ≤ d := by omega
  refine hc_enter2 (own := RX21) [(0, .ref (E.2.1 23))] pl_X21 rfl hc_V0_st hc_G0_nd rfl (Nat.le_of_ble_eq_true rfl) (fun X hC hem => ?_)
  have HX := fun z => hc_CX hC z
  unfold bd_X21_statement at h
  refine hr_aload_n hC dX21_statement_0 rfl ?_
  refine hr_ldcs (v := 76) 76 hC dX21_statement_1 (List.mem_of_getElem? (i := 76) rfl) (by decide) rfl ?_
  obtain ⟨r1, e2, h⟩ := hx_bind h
  refine hs_callV0 hC 23 [_] _ dX21_statement_3 q3202 q3204 qs190 q335 q3205 np_X21 rfl OB_23 pd_X21_is (Nat.le_of_ble_eq_true rfl) hd1 (okX21_is l E A (d - 1)  (by omega)  e2 am) rfl ?_
  refine hr_if_eq (x := _) hC 14 dX21_statement_6 (by decide) (fun c6 => ?_) (fun c6 => ?_)
  · rw [if_pos c6] at h
    refine hr_aload_n hC dX21_statement_14 rfl ?_
    refine hr_ldcs (v := 81) 81 hC dX21_statement_15 (List.mem_of_getElem? (i := 81) rfl) (by decide) rfl ?_
    obtain ⟨r7, e8, h⟩ := hx_bind h
    refine hs_callV0 hC 23 [_] _ dX21_statement_17 q3202 q3204 qs190 q335 q3205 np_X21 rfl OB_23 pd_X21_is (Nat.le_of_ble_eq_true rfl) hd1 (okX21_is l E A (d - 1)  (by omega)  e8 am) rfl ?_
    refine hr_if_eq (x := _) hC 46 dX21_statement_20 (by decide) (fun c12 => ?_) (fun c12 => ?_)
    · rw [if_pos c12] at h
      refine hr_aload_n hC dX21_statement_46 rfl ?_
      obtain ⟨r13, e14, h⟩ := hx_bind h
      refine hs_callV0 hC 23 [] _ dX21_statement_47 q3310 q3312 qs214 q335 q3313 np_X21 rfl OB_23 pd_X21_isType (Nat.le_of_ble_eq_true rfl) hd1 (okX21_isType l E A (d - 1)  (by omega)  e14 am) rfl ?_
      refine hr_if_eq (x := _) hC 58 dX21_statement_50 (by decide) (fun c18 => ?_) (fun c18 => ?_)
      · rw [if_pos c18] at h
        refine hr_aload_n hC dX21_statement_58 rfl ?_
        refine hr_gA hC F23_13 rfl dX21_statement_59 q2855 ?_
        refine hr_aload_n hC dX21_statement_62 rfl ?_
        refine hr_gI hC F23_15 dX21_statement_63 q2857 ?_
        obtain ⟨c19, h⟩ := hk_ok h
        refine hs_bald hC A23_13 c19 dX21_statement_66 ?_
        refine hr_iconst (v := 2) hC dX21_statement_67 rfl ?_
        refine hr_icmp_ne (x := _) hC 85 dX21_statement_68 (by decide) (fun c21 => ?_) (fun c21 => ?_)
        · rw [if_neg c21] at h
          refine hr_aload_n hC dX21_statement_85 rfl ?_
          refine hr_bipush (v := 22) hC dX21_statement_86 rfl ?_
          refine hr_aload_n hC dX21_statement_88 rfl ?_
          refine hr_gI hC F23_15 dX21_statement_89 q2857 ?_
          obtain ⟨r22, e23, h⟩ := hx_bind h
          refine hs_callV0 hC 23 [_, _] _ dX21_statement_92 q3194 q3196 qs188 q335 q3197 np_X21 rfl OB_23 pd_X21_make (Nat.le_of_ble_eq_true rfl) hd1 (okX21_make l E A (d - 1)  (by omega)  e23 am) rfl ?_
          refine hr_istore_n hC dX21_statement_95 (by decide) ?_
          refine hr_aload_n hC dX21_statement_96 rfl ?_
          refine hr_gA hC F23_21 rfl dX21_statement_97 q2863 ?_
          refine hr_iload_n hC dX21_statement_100 rfl ?_
          refine hr_aload_n hC dX21_statement_101 rfl ?_
          obtain ⟨r26, e27, h⟩ := hx_bind h
          by_cases z30 : r26.1 = 0
          · rw [ht_0 z30] at h
            refine hs_callV0 hC 23 [] _ dX21_statement_102 q3263 q3265 qs203 q335 q3266 np_X21 rfl OB_23 pd_X21_expression (Nat.le_of_ble_eq_true rfl) hd1 (hc_M0 (r := r26) (okX21_expression l E A (d - 1) n k0 (by omega)  e27 am) z30) rfl ?_
            obtain ⟨c31, h⟩ := hk_ok h
            obtain ⟨σ32, hσ32, h⟩ := hl_ok h
            refine hs_iast hC A23_21 c31 dX21_statement_105 ?_
            rw [← hσ32]
            refine hr_aload_n hC dX21_statement_106 rfl ?_
            refine hr_ldcs (v := 81) 81 hC dX21_statement_107 (List.mem_of_getElem? (i := 81) rfl) (by decide) rfl ?_
            obtain ⟨r33, e34, h⟩ := hx_bind h
            by_cases z37 : r33.1 = 0
            · rw [ht_0 z37] at h
              refine hs_callV0 hC 23 [_] _ dX21_statement_109 q3282 q3284 qs207 q335 q3285 np_X21 rfl OB_23 pd_X21_take (Nat.le_of_ble_eq_true rfl) hd1 (hc_M0 (r := r33) (okX21_take l E A (d - 1)  (by omega)  e34 am) z37) rfl ?_
              refine hr_iload_n hC dX21_statement_112 rfl ?_
              obtain rfl := Option.some.inj h
              exact hr_iret hC dX21_statement_113
            · rw [ht_1 z37] at h
              obtain rfl := Option.some.inj h
              exact hs_callVx (HX z37) hem 23 [_] _ dX21_statement_109 q3282 q3284 qs207 q335 q3285 np_X21 rfl OB_23 pd_X21_take (Nat.le_of_ble_eq_true rfl) hd1 (hc_M1 (r := r33) (okX21_take l E A (d - 1)  (by omega)  e34 am) z37) (hc_rb rfl) rfl
          · rw [ht_1 z30] at h
            obtain rfl := Option.some.inj h
            exact hs_callVx (HX z30) hem 23 [] _ dX21_statement_102 q3263 q3265 qs203 q335 q3266 np_X21 rfl OB_23 pd_X21_expression (Nat.le_of_ble_eq_true rfl) hd1 (hc_M1 (r := r26) (okX21_expression l E A (d - 1) n k0 (by omega)  e27 am) z30) (hc_rb rfl) rfl
        · rw [if_pos c21] at h
          refine hr_aload_n hC dX21_statement_71 rfl ?_
          refine hr_aload_n hC dX21_statement_72 rfl ?_
          refine hr_gA hC F23_14 rfl dX21_statement_73 q2856 ?_
          refine hr_aload_n hC dX21_statement_76 rfl ?_
          refine hr_gI hC F23_15 dX21_statement_77 q2857 ?_
          obtain ⟨c38, h⟩ := hk_ok h
          refine hs_iald hC A23_14 c38 dX21_statement_80 ?_
          obtain ⟨r39, e40, h⟩ := hx_bind h
          by_cases z43 : r39.1 = 0
          · rw [ht_0 z43] at h
            refine hs_callV0 hC 23 [_] _ dX21_statement_81 q3346 q3348 qs223 q335 q3349 np_X21 rfl OB_23 pd_X21_byKey (Nat.le_of_ble_eq_true rfl) hd1 (hc_M0 (r := r39) (IH _ _ _ _ e40 am) z43) rfl ?_
            obtain rfl := Option.some.inj h
            exact hr_iret hC dX21_statement_84
          · rw [ht_1 z43] at h
            obtain rfl := Option.some.inj h
            exact hs_callVx (HX z43) hem 23 [_] _ dX21_statement_81 q3346 q3348 qs223 q335 q3349 np_X21 rfl OB_23 pd_X21_byKey (Nat.le_of_ble_eq_true rfl) hd1 (hc_M1 (r := r39) (IH _ _ _ _ e40 am) z43) (hc_rb rfl) rfl
      · rw [if_neg c18] at h
        refine hr_aload_n hC dX21_statement_53 rfl ?_
        obtain ⟨r44, e45, h⟩ := hx_bind h
        by_cases z48 : r44.1 = 0
        · rw [ht_0 z48] at h
          refine hs_callV0 hC 23 [] _ dX21_statement_54 q3330 q3332 qs219 q335 q3333 np_X21 rfl OB_23 pd_X21_declaration (Nat.le_of_ble_eq_true rfl) hd1 (hc_M0 (r := r44) (okX21_declaration l E A (d - 1) n k0 (by omega)  e45 am) z48) rfl ?_
          obtain rfl := Option.some.inj h
          exact hr_iret hC dX21_statement_57
        · rw [ht_1 z48] at h
          obtain rfl := Option.some.inj h
          exact hs_callVx (HX z48) hem 23 [] _ dX21_statement_54 q3330 q3332 qs219 q335 q3333 np_X21 rfl OB_23 pd_X21_declaration (Nat.le_of_ble_eq_true rfl) hd1 (hc_M1 (r := r44) (okX21_declaration l E A (d - 1) n k0 (by omega)  e45 am) z48) (hc_rb rfl) rfl
    · rw [if_neg c12] at h
      refine hr_aload_n hC dX21_statement_23 rfl ?_
      refine hr_dup hC dX21_statement_24 rfl ?_
      refine hr_gI hC F23_15 dX21_statement_25 q2857 ?_
      refine hr_iconst (v := 1) hC dX21_statement_28 rfl ?_
      refine hr_iadd hC dX21_statement_29 ?_
      obtain ⟨σ49, hσ49, h⟩ := hl_ok h
      refine hr_pI hC F23_15 PX21_15 dX21_statement_30 q2857 ?_
      rw [← hσ49]
      refine hr_aload_n hC dX21_statement_33 rfl ?_
      refine hr_bipush (v := 21) hC dX21_statement_34 rfl ?_
      refine hr_aload_n hC dX21_statement_36 rfl ?_
      refine hr_gI hC F23_15 dX21_statement_37 q2857 ?_
      refine hr_iconst (v := 1) hC dX21_statement_40 rfl ?_
      refine hr_isub hC dX21_statement_41 ?_
      obtain ⟨r50, e51, h⟩ := hx_bind h
      refine hs_callV0 hC 23 [_, _] _ dX21_statement_42 q3194 q3196 qs188 q335 q3197 np_X21 rfl OB_23 pd_X21_make (Nat.le_of_ble_eq_true rfl) hd1 (okX21_make l E A (d - 1)  (by omega)  e51 am) rfl ?_
      obtain rfl := Option.some.inj h
      exact hr_iret hC dX21_statement_45
  · rw [if_neg c6] at h
    refine hr_aload_n hC dX21_statement_9 rfl ?_
    obtain ⟨r54, e55, h⟩ := hx_bind h
    by_cases z58 : r54.1 = 0
    · rw [ht_0 z58] at h
      refine hs_callV0 hC 23 [] _ dX21_statement_10 q3322 q3324 qs217 q335 q3325 np_X21 rfl OB_23 pd_X21_block (Nat.le_of_ble_eq_true rfl) hd1 (hc_M0 (r := r54) (IH _ _ _ _ e55 am) z58) rfl ?_
      obtain rfl := Option.some.inj h
      exact hr_iret hC dX21_statement_13
    · rw [ht_1 z58] at h
      obtain rfl := Option.some.inj h
      exact hs_callVx (HX z58) hem 23 [] _ dX21_statement_10 q3322 q3324 qs217 q335 q3325 np_X21 rfl OB_23 pd_X21_block (Nat.le_of_ble_eq_true rfl) hd1 (hc_M1 (r := r54) (IH _ _ _ _ e55 am) z58) (hc_rb rfl) rfl
/-- HomeCompilerModel.byKey(I)I -/
def bd_X21_byKey (n : Nat) (k0 : Nat) (rec : Nat → List Int32 → hc_St → Option (Nat × Int32 × hc_St)) (x1 : Int32) (σ : hc_St) : Option (Nat × Int32 × hc_St) := if x1 = 4 then (Option.bind (rec 3 [x1] σ) fun r6 => ht r6 <| some (0, r6.2.1, r6.2.2)) else if x1 = 6 then (Option.bind (rec 3 [x1] σ) fun r11 => ht r11 <| some (0, r11.2.1, r11.2.2)) else if x1 = 7 then (Option.bind (rec 4 [] σ) fun r16 => ht r16 <| some (0, r16.2.1, r16.2.2)) else if x1 = 8 then (Option.bind (rec 5 [] σ) fun r21 => ht r21 <| some (0, r21.2.1, r21.2.2)) else if x1 = 9 then (Option.bind (rec 6 [] σ) fun r26 => ht r26 <| some (0, r26.2.1, r26.2.2)) else if x1 = 12 then (hl (pI σ 23 15 ((((gI σ 23 15)) + 1))) fun σ31 => Option.bind (fm_X21_take 81 σ31) fun r32 => ht r32 <| hl (α := Int32) ((if x1 = 12 then 31 else 32)) fun v39 => Option.bind (fm_X21_make v39 ((((gI r32.2.2 23 15)) - 2)) r32.2.2) fun r40 => some (0, r40.1, r40.2)) else if x1 = 13 then (hl (pI σ 23 15 ((((gI σ 23 15)) + 1))) fun σ47 => Option.bind (fm_X21_take 81 σ47) fun r48 => ht r48 <| hl (α := Int32) ((if x1 = 12 then 31 else 32)) fun v55 => Option.bind (fm_X21_make v55 ((((gI r48.2.2 23 15)) - 2)) r48.2.2) fun r56 => some (0, r56.1, r56.2)) else if x1 = 14 then (Option.bind (fm_X21_make 33 ((gI σ 23 15)) σ) fun r63 => hl (pI r63.2 23 15 ((((gI r63.2 23 15)) + 1))) fun σ67 => Option.bind (fm_X21_is 81 σ67) fun r68 => Option.bind (α := Nat × hc_St × Int32) (if r68 = 0 then (Option.bind (fm_X21_expression n k0 σ67) fun r78 => hv r78 (0) <| hk (inb r63.1 (gL r78.2.2 23 21)) <| hl (pC r78.2.2 23 21 r63.1 r78.2.1) fun σ84 => some (0, σ84, (0 : Int32))) else (some (0, σ67, (0 : Int32)))) fun r74 => hu r74 <| Option.bind (fm_X21_take 81 r74.2.1) fun r85 => ht r85 <| some (0, r63.1, r85.2.2)) else (Option.bind (fm_X21_need 0 σ) fun r1 => ht r1 <| some (0, (-1), r1.2.2))
set_option maxRecDepth 20000 in
set_option maxHeartbeats 4000000 in
theorem okbX21_byKey (l : Launch) (E : hc_E) (A : Nat → Prop) (d : Nat) {kk : Nat} (n : Nat) (k0 : Nat) (rec : Nat → List Int32 → hc_St → Option (Nat × Int32 × hc_St)) (hD : kk + 1 * k0 + 22 ≤ d) (IH : ∀ (w : Nat) (a : List Int32) (σ : hc_St) (r : (Nat × Int32 × hc_St)), rec w a σ = some r → ∀ am, okg_X21_block l E A (d - 1) am w a σ r) {x1 : Int32} {σ : hc_St} {r : (Nat × Int32 × hc_St)} (h : bd_X21_byKey n k0 rec x1 σ = some r) (am : Nat → Nat → Nat) : hc_M l hc_V0 yX21_byKey (ws_ yX21_byKey cX21_byKey 3 (some .int)) d E A [.ref (E.2.1 23), .int x1] am [] σ (hc_ot (fun v => some (.int v)) r) r.2.2 := by
  have hd1 : 1 ≤ d := by omega
  have hd8 : 9 ≤ d := by omega
  have hd12 : 12 ≤ d := by omega
  refine hc_enter2 (own := RX21) [(0, .ref (E.2.1 23)), (1, .int x1)] pl_X21 rfl hc_V0_st hc_G0_nd rfl (Nat.le_of_ble_eq_true rfl) (fun X hC hem => ?_)
  have HX := fun z => hc_CX hC z
  unfold bd_X21_byKey at h
  refine hr_iload_n hC dX21_byKey_0 rfl ?_
  by_cases c90 : x1 = 4
  · rw [if_pos c90] at h
    refine hr_tableIn hC 60 dX21_byKey_1 (by rw [c90] <;> decide) (by rw [c90] <;> decide) (by rw [c90] <;> rfl) (by decide) ?_
    refine hr_aload_n hC dX21_byKey_60 rfl ?_
    refine hr_iload_n hC dX21_byKey_61 rfl ?_
    obtain ⟨r6, e7, h⟩ := hx_bind h
    by_cases z10 : r6.1 = 0
    · rw [ht_0 z10] at h
      refine hs_callV0 hC 23 [_] _ dX21_byKey_62 q3350 q3352 qs224 q335 q3353 np_X21 rfl OB_23 pd_X21_conditioned (Nat.le_of_ble_eq_true rfl) hd1 (hc_M0 (r := r6) (IH _ _ _ _ e7 am) z10) rfl ?_
      obtain rfl := Option.some.inj h
      exact hr_iret hC dX21_byKey_65
    · rw [ht_1 z10] at h
      obtain rfl := Option.some.inj h
      exact hs_callVx (HX z10) hem 23 [_] _ dX21_byKey_62 q3350 q3352 qs224 q335 q3353 np_X21 rfl OB_23 pd_X21_conditioned (Nat.le_of_ble_eq_true rfl) hd1 (hc_M1 (r := r6) (IH _ _ _ _ e7 am) z10) (hc_rb rfl) rfl
  rw [if_neg c90] at h
  by_cases c91 : x1 = 6
  · rw [if_pos c91] at h
    refine hr_tableIn hC 60 dX21_byKey_1 (by rw [c91] <;> decide) (by rw [c91] <;> decide) (by rw [c91] <;> rfl) (by decide) ?_
    refine hr_aload_n hC dX21_byKey_60 rfl ?_
    refine hr_iload_n hC dX21_byKey_61 rfl ?_
    obtain ⟨r11, e12, h⟩ := hx_bind h
    by_cases z15 : r11.1 = 0
    · rw [ht_0 z15] at h
      refine hs_callV0 hC 23 [_] _ dX21_byKey_62 q3350 q3352 qs224 q335 q3353 np_X21 rfl OB_23 pd_X21_conditioned (Nat.le_of_ble_eq_true rfl) hd1 (hc_M0 (r := r11) (IH _ _ _ _ e12 am) z15) rfl ?_
      obtain rfl := Option.some.inj h
      exact hr_iret hC dX21_byKey_65
    · rw [ht_1 z15] at h
      obtain rfl := Option.some.inj h
      exact hs_callVx (HX z15) hem 23 [_] _ dX21_byKey_62 q3350 q3352 qs224 q335 q3353 np_X21 rfl OB_23 pd_X21_conditioned (Nat.le_of_ble_eq_true rfl) hd1 (hc_M1 (r := r11) (IH _ _ _ _ e12 am) z15) (hc_rb rfl) rfl
  rw [if_neg c91] at h
  by_cases c92 : x1 = 7
  · rw [if_pos c92] at h
    refine hr_tableIn hC 66 dX21_byKey_1 (by rw [c92] <;> decide) (by rw [c92] <;> decide) (by rw [c92] <;> rfl) (by decide) ?_
    refine hr_aload_n hC dX21_byKey_66 rfl ?_
    obtain ⟨r16, e17, h⟩ := hx_bind h
    by_cases z20 : r16.1 = 0
    · rw [ht_0 z20] at h
      refine hs_callV0 hC 23 [] _ dX21_byKey_67 q3362 q3364 qs227 q335 q3365 np_X21 rfl OB_23 pd_X21_doing (Nat.le_of_ble_eq_true rfl) hd1 (hc_M0 (r := r16) (IH _ _ _ _ e17 am) z20) rfl ?_
      obtain rfl := Option.some.inj h
      exact hr_iret hC dX21_byKey_70
    · rw [ht_1 z20] at h
      obtain rfl := Option.some.inj h
      exact hs_callVx (HX z20) hem 23 [] _ dX21_byKey_67 q3362 q3364 qs227 q335 q3365 np_X21 rfl OB_23 pd_X21_doing (Nat.le_of_ble_eq_true rfl) hd1 (hc_M1 (r := r16) (IH _ _ _ _ e17 am) z20) (hc_rb rfl) rfl
  rw [if_neg c92] at h
  by_cases c93 : x1 = 8
  · rw [if_pos c93] at h
    refine hr_tableIn hC 71 dX21_byKey_1 (by rw [c93] <;> decide) (by rw [c93] <;> decide) (by rw [c93] <;> rfl) (by decide) ?_
    refine hr_aload_n hC dX21_byKey_71 rfl ?_
    obtain ⟨r21, e22, h⟩ := hx_bind h
    by_cases z25 : r21.1 = 0
    · rw [ht_0 z25] at h
      refine hs_callV0 hC 23 [] _ dX21_byKey_72 q3366 q3368 qs228 q335 q3369 np_X21 rfl OB_23 pd_X21_forLoop (Nat.le_of_ble_eq_true rfl) hd1 (hc_M0 (r := r21) (IH _ _ _ _ e22 am) z25) rfl ?_
      obtain rfl := Option.some.inj h
      exact hr_iret hC dX21_byKey_75
    · rw [ht_1 z25] at h
      obtain rfl := Option.some.inj h
      exact hs_callVx (HX z25) hem 23 [] _ dX21_byKey_72 q3366 q3368 qs228 q335 q3369 np_X21 rfl OB_23 pd_X21_forLoop (Nat.le_of_ble_eq_true rfl) hd1 (hc_M1 (r := r21) (IH _ _ _ _ e22 am) z25) (hc_rb rfl) rfl
  rw [if_neg c93] at h
  by_cases c94 : x1 = 9
  · rw [if_pos c94] at h
    refine hr_tableIn hC 76 dX21_byKey_1 (by rw [c94] <;> decide) (by rw [c94] <;> decide) (by rw [c94] <;> rfl) (by decide) ?_
    refine hr_aload_n hC dX21_byKey_76 rfl ?_
    obtain ⟨r26, e27, h⟩ := hx_bind h
    by_cases z30 : r26.1 = 0
    · rw [ht_0 z30] at h
      refine hs_callV0 hC 23 [] _ dX21_byKey_77 q3370 q3372 qs229 q335 q3373 np_X21 rfl OB_23 pd_X21_switching (Nat.le_of_ble_eq_true rfl) hd1 (hc_M0 (r := r26) (IH _ _ _ _ e27 am) z30) rfl ?_
      obtain rfl := Option.some.inj h
      exact hr_iret hC dX21_byKey_80
    · rw [ht_1 z30] at h
      obtain rfl := Option.some.inj h
      exact hs_callVx (HX z30) hem 23 [] _ dX21_byKey_77 q3370 q3372 qs229 q335 q3373 np_X21 rfl OB_23 pd_X21_switching (Nat.le_of_ble_eq_true rfl) hd1 (hc_M1 (r := r26) (IH _ _ _ _ e27 am) z30) (hc_rb rfl) rfl
  rw [if_neg c94] at h
  by_cases c95 : x1 = 12
  · rw [if_pos c95] at h
    refine hr_tableIn hC 81 dX21_byKey_1 (by rw [c95] <;> decide) (by rw [c95] <;> decide) (by rw [c95] <;> rfl) (by decide) ?_
    refine hr_aload_n hC dX21_byKey_81 rfl ?_
    refine hr_dup hC dX21_byKey_82 rfl ?_
    refine hr_gI hC F23_15 dX21_byKey_83 q2857 ?_
    refine hr_iconst (v := 1) hC dX21_byKey_86 rfl ?_
    refine hr_iadd hC dX21_byKey_87 ?_
    obtain ⟨σ31, hσ31, h⟩ := hl_ok h
    refine hr_pI hC F23_15 PX21_15 dX21_byKey_88 q2857 ?_
    rw [← hσ31]
    refine hr_aload_n hC dX21_byKey_91 rfl ?_
    refine hr_ldcs (v := 81) 81 hC dX21_byKey_92 (List.mem_of_getElem? (i := 81) rfl) (by decide) rfl ?_
    obtain ⟨r32, e33, h⟩ := hx_bind h
    by_cases z36 : r32.1 = 0
    · rw [ht_0 z36] at h
      refine hs_callV0 hC 23 [_] _ dX21_byKey_94 q3282 q3284 qs207 q335 q3285 np_X21 rfl OB_23 pd_X21_take (Nat.le_of_ble_eq_true rfl) hd1 (hc_M0 (r := r32) (okX21_take l E A (d - 1)  (by omega)  e33 am) z36) rfl ?_
      refine hr_aload_n hC dX21_byKey_97 rfl ?_
      refine hr_iload_n hC dX21_byKey_98 rfl ?_
      refine hr_bipush (v := 12) hC dX21_byKey_99 rfl ?_
      obtain ⟨v39, hv39, h⟩ := hl_ok h
      have J44 : ∀ w45 : Int32, (if x1 = 12 then 31 else 32) = w45 → hc_At hc_V0 E 3 X 111 [(0, .ref (E.2.1 23))] [.int w45, .ref (E.2.1 23)] r32.2.2 am [] := by
        intro w45 hw45
        obtain rfl := hv39.trans hw45
        refine hr_aload_n hC dX21_byKey_111 rfl ?_
        refine hr_gI hC F23_15 dX21_byKey_112 q2857 ?_
        refine hr_iconst (v := 2) hC dX21_byKey_115 rfl ?_
        refine hr_isub hC dX21_byKey_116 ?_
        obtain ⟨r40, e41, h⟩ := hx_bind h
        refine hs_callV0 hC 23 [_, _] _ dX21_byKey_117 q3194 q3196 qs188 q335 q3197 np_X21 rfl OB_23 pd_X21_make (Nat.le_of_ble_eq_true rfl) hd1 (okX21_make l E A (d - 1)  (by omega)  e41 am) rfl ?_
        obtain rfl := Option.some.inj h
        exact hr_iret hC dX21_byKey_120
      refine hr_icmp_ne (x := _) hC 109 dX21_byKey_101 (by decide) (fun c46 => ?_) (fun c46 => ?_)
      · refine hr_bipush (v := 32) hC dX21_byKey_109 rfl ?_
        exact hr_sub _ rfl (J44 _ (by first | (rw [if_neg c46]; done) | (simp only [if_neg c46]; done) | rfl))
      · refine hr_bipush (v := 31) hC dX21_byKey_104 rfl ?_
        refine hr_goto hC 111 dX21_byKey_106 (by decide) ?_
        exact hr_sub _ rfl (J44 _ (by first | (rw [if_pos c46]; done) | (simp only [if_pos c46]; done) | rfl))
    · rw [ht_1 z36] at h
      obtain rfl := Option.some.inj h
      exact hs_callVx (HX z36) hem 23 [_] _ dX21_byKey_94 q3282 q3284 qs207 q335 q3285 np_X21 rfl OB_23 pd_X21_take (Nat.le_of_ble_eq_true rfl) hd1 (hc_M1 (r := r32) (okX21_take l E A (d - 1)  (by omega)  e33 am) z36) (hc_rb rfl) rfl
  rw [if_neg c95] at h
  by_cases c96 : x1 = 13
  · rw [if_pos c96] at h
    refine hr_tableIn hC 81 dX21_byKey_1 (by rw [c96] <;> decide) (by rw [c96] <;> decide) (by rw [c96] <;> rfl) (by decide) ?_
    refine hr_aload_n hC dX21_byKey_81 rfl ?_
    refine hr_dup hC dX21_byKey_82 rfl ?_
    refine hr_gI hC F23_15 dX21_byKey_83 q2857 ?_
    refine hr_iconst (v := 1) hC dX21_byKey_86 rfl ?_
    refine hr_iadd hC dX21_byKey_87 ?_
    obtain ⟨σ47, hσ47, h⟩ := hl_ok h
    refine hr_pI hC F23_15 PX21_15 dX21_byKey_88 q2857 ?_
    rw [← hσ47]
    refine hr_aload_n hC dX21_byKey_91 rfl ?_
    refine hr_ldcs (v := 81) 81 hC dX21_byKey_92 (List.mem_of_getElem? (i := 81) rfl) (by decide) rfl ?_
    obtain ⟨r48, e49, h⟩ := hx_bind h
    by_cases z52 : r48.1 = 0
    · rw [ht_0 z52] at h
      refine hs_callV0 hC 23 [_] _ dX21_byKey_94 q3282 q3284 qs207 q335 q3285 np_X21 rfl OB_23 pd_X21_take (Nat.le_of_ble_eq_true rfl) hd1 (hc_M0 (r := r48) (okX21_take l E A (d - 1)  (by omega)  e49 am) z52) rfl ?_
      refine hr_aload_n hC dX21_byKey_97 rfl ?_
      refine hr_iload_n hC dX21_byKey_98 rfl ?_
      refine hr_bipush (v := 12) hC dX21_byKey_99 rfl ?_
      obtain ⟨v55, hv55, h⟩ := hl_ok h
      have J60 : ∀ w61 : Int32, (if x1 = 12 then 31 else 32) = w61 → hc_At hc_V0 E 3 X 111 [(0, .ref (E.2.1 23))] [.int w61, .ref (E.2.1 23)] r48.2.2 am [] := by
        intro w61 hw61
        obtain rfl := hv55.trans hw61
        refine hr_aload_n hC dX21_byKey_111 rfl ?_
        refine hr_gI hC F23_15 dX21_byKey_112 q2857 ?_
        refine hr_iconst (v := 2) hC dX21_byKey_115 rfl ?_
        refine hr_isub hC dX21_byKey_116 ?_
        obtain ⟨r56, e57, h⟩ := hx_bind h
        refine hs_callV0 hC 23 [_, _] _ dX21_byKey_117 q3194 q3196 qs188 q335 q3197 np_X21 rfl OB_23 pd_X21_make (Nat.le_of_ble_eq_true rfl) hd1 (okX21_make l E A (d - 1)  (by omega)  e57 am) rfl ?_
        obtain rfl := Option.some.inj h
        exact hr_iret hC dX21_byKey_120
      refine hr_icmp_ne (x := _) hC 109 dX21_byKey_101 (by decide) (fun c62 => ?_) (fun c62 => ?_)
      · refine hr_bipush (v := 32) hC dX21_byKey_109 rfl ?_
        exact hr_sub _ rfl (J60 _ (by first | (rw [if_neg c62]; done) | (simp only [if_neg c62]; done) | rfl))
      · refine hr_bipush (v := 31) hC dX21_byKey_104 rfl ?_
        refine hr_goto hC 111 dX21_byKey_106 (by decide) ?_
        exact hr_sub _ rfl (J60 _ (by first | (rw [if_pos c62]; done) | (simp only [if_pos c62]; done) | rfl))
    · rw [ht_1 z52] at h
      obtain rfl := Option.some.inj h
      exact hs_callVx (HX z52) hem 23 [_] _ dX21_byKey_94 q3282 q3284 qs207 q335 q3285 np_X21 rfl OB_23 pd_X21_take (Nat.le_of_ble_eq_true rfl) hd1 (hc_M1 (r := r48) (okX21_take l E A (d - 1)  (by omega)  e49 am) z52) (hc_rb rfl) rfl
  rw [if_neg c96] at h
  by_cases c97 : x1 = 14
  · rw [if_pos c97] at h
    refine hr_tableIn hC 121 dX21_byKey_1 (by rw [c97] <;> decide) (by rw [c97] <;> decide) (by rw [c97] <;> rfl) (by decide) ?_
    refine hr_aload_n hC dX21_byKey_121 rfl ?_
    refine hr_bipush (v := 33) hC dX21_byKey_122 rfl ?_
    refine hr_aload_n hC dX21_byKey_124 rfl ?_
    refine hr_gI hC F23_15 dX21_byKey_125 q2857 ?_
    obtain ⟨r63, e64, h⟩ := hx_bind h
    refine hs_callV0 hC 23 [_, _] _ dX21_byKey_128 q3194 q3196 qs188 q335 q3197 np_X21 rfl OB_23 pd_X21_make (Nat.le_of_ble_eq_true rfl) hd1 (okX21_make l E A (d - 1)  (by omega)  e64 am) rfl ?_
    refine hr_istore_n hC dX21_byKey_131 (by decide) ?_
    refine hr_aload_n hC dX21_byKey_132 rfl ?_
    refine hr_dup hC dX21_byKey_133 rfl ?_
    refine hr_gI hC F23_15 dX21_byKey_134 q2857 ?_
    refine hr_iconst (v := 1) hC dX21_byKey_137 rfl ?_
    refine hr_iadd hC dX21_byKey_138 ?_
    obtain ⟨σ67, hσ67, h⟩ := hl_ok h
    refine hr_pI hC F23_15 PX21_15 dX21_byKey_139 q2857 ?_
    rw [← hσ67]
    refine hr_aload_n hC dX21_byKey_142 rfl ?_
    refine hr_ldcs (v := 81) 81 hC dX21_byKey_143 (List.mem_of_getElem? (i := 81) rfl) (by decide) rfl ?_
    obtain ⟨r68, e69, h⟩ := hx_bind h
    refine hs_callV0 hC 23 [_] _ dX21_byKey_145 q3202 q3204 qs190 q335 q3205 np_X21 rfl OB_23 pd_X21_is (Nat.le_of_ble_eq_true rfl) hd1 (okX21_is l E A (d - 1)  (by omega)  e69 am) rfl ?_
    obtain ⟨r74, e75, h⟩ := hx_bind h
    have J76 : r74.1 = 0 → hc_At hc_V0 E 3 X 161 [(0, .ref (E.2.1 23)), (2, .int r63.1)] [] r74.2.1 am [] := by
      intro z77
      rw [hu_0 z77] at h
      refine hr_aload_n hC dX21_byKey_161 rfl ?_
      refine hr_ldcs (v := 81) 81 hC dX21_byKey_162 (List.mem_of_getElem? (i := 81) rfl) (by decide) rfl ?_
      obtain ⟨r85, e86, h⟩ := hx_bind h
      by_cases z89 : r85.1 = 0
      · rw [ht_0 z89] at h
        refine hs_callV0 hC 23 [_] _ dX21_byKey_164 q3282 q3284 qs207 q335 q3285 np_X21 rfl OB_23 pd_X21_take (Nat.le_of_ble_eq_true rfl) hd1 (hc_M0 (r := r85) (okX21_take l E A (d - 1)  (by omega)  e86 am) z89) rfl ?_
        refine hr_iload_n hC dX21_byKey_167 rfl ?_
        obtain rfl := Option.some.inj h
        exact hr_iret hC dX21_byKey_168
      · rw [ht_1 z89] at h
        obtain rfl := Option.some.inj h
        exact hs_callVx (HX z89) hem 23 [_] _ dX21_byKey_164 q3282 q3284 qs207 q335 q3285 np_X21 rfl OB_23 pd_X21_take (Nat.le_of_ble_eq_true rfl) hd1 (hc_M1 (r := r85) (okX21_take l E A (d - 1)  (by omega)  e86 am) z89) (hc_rb rfl) rfl
    have HX : r74.1 ≠ 0 → hc_C hc_V0 E cX21_byKey 3 RX21 (some .int) d (.inr r74.1) r74.2.1 (l, A, am, []) X := by
      intro z77
      rw [hu_1 z77] at h
      obtain rfl := Option.some.inj h
      exact HX z77
    clear h
    have h := e75
    refine hr_if_ne (x := _) hC 161 dX21_byKey_148 (by decide) (fun c73 => ?_) (fun c73 => ?_)
    · rw [if_neg c73] at h
      obtain rfl := Option.some.inj h
      exact hr_sub _ rfl (J76 rfl)
    · rw [if_pos c73] at h
      refine hr_aload_n hC dX21_byKey_151 rfl ?_
      refine hr_gA hC F23_21 rfl dX21_byKey_152 q2863 ?_
      refine hr_iload_n hC dX21_byKey_155 rfl ?_
      refine hr_aload_n hC dX21_byKey_156 rfl ?_
      obtain ⟨r78, e79, h⟩ := hx_bind h
      by_cases z82 : r78.1 = 0
      · rw [hv_0 z82] at h
        refine hs_callV0 hC 23 [] _ dX21_byKey_157 q3263 q3265 qs203 q335 q3266 np_X21 rfl OB_23 pd_X21_expression (Nat.le_of_ble_eq_true rfl) hd1 (hc_M0 (r := r78) (okX21_expression l E A (d - 1) n k0 (by omega)  e79 am) z82) rfl ?_
        obtain ⟨c83, h⟩ := hk_ok h
        obtain ⟨σ84, hσ84, h⟩ := hl_ok h
        refine hs_iast hC A23_21 c83 dX21_byKey_160 ?_
        rw [← hσ84]
        obtain rfl := Option.some.inj h
        exact hr_sub _ rfl (J76 rfl)
      · rw [hv_1 z82] at h
        obtain rfl := Option.some.inj h
        exact hs_callVx (HX z82) hem 23 [] _ dX21_byKey_157 q3263 q3265 qs203 q335 q3266 np_X21 rfl OB_23 pd_X21_expression (Nat.le_of_ble_eq_true rfl) hd1 (hc_M1 (r := r78) (okX21_expression l E A (d - 1) n k0 (by omega)  e79 am) z82) (hc_rb rfl) rfl
  rw [if_neg c97] at h
  refine hr_tableD hC 169 dX21_byKey_1 (ks := [4, 6, 7, 8, 9, 12, 13, 14]) (hc_l1 (hc_ne c90 rfl) (hc_l1 (hc_ne c91 rfl) (hc_l1 (hc_ne c92 rfl) (hc_l1 (hc_ne c93 rfl) (hc_l1 (hc_ne c94 rfl) (hc_l1 (hc_ne c95 rfl) (hc_l1 (hc_ne c96 rfl) (hc_l1 (hc_ne c97 rfl) hc_l0)))))))) (by decide) (by decide) (by decide) ?_
  refine hr_aload_n hC dX21_byKey_169 rfl ?_
  refine hr_iconst (v := 0) hC dX21_byKey_170 rfl ?_
  obtain ⟨r1, e2, h⟩ := hx_bind h
  by_cases z5 : r1.1 = 0
  · rw [ht_0 z5] at h
    refine hs_callV0 hC 23 [_] _ dX21_byKey_171 q3218 q3220 qs192 q335 q3221 np_X21 rfl OB_23 pd_X21_need (Nat.le_of_ble_eq_true rfl) hd1 (hc_M0 (r := r1) (okX21_need l E A (d - 1)  (by omega)  e2 am) z5) rfl ?_
    refine hr_iconst (v := (-1)) hC dX21_byKey_174 rfl ?_
    obtain rfl := Option.some.inj h
    exact hr_iret hC dX21_byKey_175
  · rw [ht_1 z5] at h
    obtain rfl := Option.some.inj h
    exact hs_callVx (HX z5) hem 23 [_] _ dX21_byKey_171 q3218 q3220 qs192 q335 q3221 np_X21 rfl OB_23 pd_X21_need (Nat.le_of_ble_eq_true rfl) hd1 (hc_M1 (r := r1) (okX21_need l E A (d - 1)  (by omega)  e2 am) z5) (hc_rb rfl) rfl
/-- HomeCompilerModel.conditioned(I)I -/
def bd_X21_conditioned (n : Nat) (k0 : Nat) (rec : Nat → List Int32 → hc_St → Option (Nat × Int32 × hc_St)) (x1 : Int32) (σ : hc_St) : Option (Nat × Int32 × hc_St) := hl (α := Int32) ((if x1 = 4 then 24 else 25)) fun v3 => Option.bind (fm_X21_make v3 ((gI σ 23 15)) σ) fun r4 => Option.bind (fm_X21_opens  r4.2) fun r8 => ht r8 <| Option.bind (fm_X21_inParentheses n k0 r8.2.2) fun r13 => ht r13 <| hk (inb r4.1 (gL r13.2.2 23 21)) <| hl (pC r13.2.2 23 21 r4.1 r13.2.1) fun σ19 => Option.bind (rec 1 [] σ19) fun r20 => ht r20 <| hk (inb r4.1 (gL r20.2.2 23 22)) <| hl (pC r20.2.2 23 22 r4.1 r20.2.1) fun σ26 => Option.bind (α := Nat × hc_St × Int32) (if x1 = 4 then (Option.bind (fm_X21_takesKey 5 σ26) fun r33 => if r33.1 = 0 then (some (0, r33.2, (0 : Int32))) else (Option.bind (rec 1 [] r33.2) fun r39 => hv r39 (0) <| hk (inb r4.1 (gL r39.2.2 23 23)) <| hl (pC r39.2.2 23 23 r4.1 r39.2.1) fun σ45 => some (0, σ45, (0 : Int32)))) else (some (0, σ26, (0 : Int32)))) fun r29 => hu r29 <| hl (pI r29.2.1 23 16 ((((gI r29.2.1 23 16)) - 1))) fun σ46 => some (0, r4.1, σ46)
set_option maxRecDepth 20000 in
set_option maxHeartbeats 4000000 in
theorem okbX21_conditioned (l : Launch) (E : hc_E) (A : Nat → Prop) (d : Nat) {kk : Nat} (n : Nat) (k0 : Nat) (rec : Nat → List Int32 → hc_St → Option (Nat × Int32 × hc_St)) (hD : kk + 1 * k0 + 22 ≤ d) (IH : ∀ (w : Nat) (a : List Int32) (σ : hc_St) (r : (Nat × Int32 × hc_St)), rec w a σ = some r → ∀ am, okg_X21_block l E A (d - 1) am w a σ r) {x1 : Int32} {σ : hc_St} {r : (Nat × Int32 × hc_St)} (h : bd_X21_conditioned n k0 rec x1 σ = some r) (am : Nat → Nat → Nat) : hc_M l hc_V0 yX21_conditioned (ws_ yX21_conditioned cX21_conditioned 3 (some .int)) d E A [.ref (E.2.1 23), .int x1] am [] σ (hc_ot (fun v => some (.int v)) r) r.2.2 := by
  have hd1 : 1 ≤ d := by omega
  have hd8 : 9 ≤ d := by omega
  have hd12 : 12 ≤ d := by omega
  refine hc_enter2 (own := RX21) [(0, .ref (E.2.1 23)), (1, .int x1)] pl_X21 rfl hc_V0_st hc_G0_nd rfl (Nat.le_of_ble_eq_true rfl) (fun X hC hem => ?_)
  have HX := fun z => hc_CX hC z
  unfold bd_X21_conditioned at h
  refine hr_aload_n hC dX21_conditioned_0 rfl ?_
  refine hr_iload_n hC dX21_conditioned_1 rfl ?_
  refine hr_iconst (v := 4) hC dX21_conditioned_2 rfl ?_
  obtain ⟨v3, hv3, h⟩ := hl_ok h
  have J47 : ∀ w48 : Int32, (if x1 = 4 then 24 else 25) = w48 → hc_At hc_V0 E 3 X 13 [(0, .ref (E.2.1 23)), (1, .int x1)] [.int w48, .ref (E.2.1 23)] σ am [] := by
    intro w48 hw48
    obtain rfl := hv3.trans hw48
    refine hr_aload_n hC dX21_conditioned_13 rfl ?_
    refine hr_gI hC F23_15 dX21_conditioned_14 q2857 ?_
    obtain ⟨r4, e5, h⟩ := hx_bind h
    refine hs_callV0 hC 23 [_, _] _ dX21_conditioned_17 q3194 q3196 qs188 q335 q3197 np_X21 rfl OB_23 pd_X21_make (Nat.le_of_ble_eq_true rfl) hd1 (okX21_make l E A (d - 1)  (by omega)  e5 am) rfl ?_
    refine hr_istore_n hC dX21_conditioned_20 (by decide) ?_
    refine hr_aload_n hC dX21_conditioned_21 rfl ?_
    obtain ⟨r8, e9, h⟩ := hx_bind h
    by_cases z12 : r8.1 = 0
    · rw [ht_0 z12] at h
      refine hs_callV0 hC 23 [] _ dX21_conditioned_22 q3223 q3225 qs193 q335 q3226 np_X21 rfl OB_23 pd_X21_opens (Nat.le_of_ble_eq_true rfl) hd1 (hc_M0 (r := r8) (okX21_opens l E A (d - 1)  (by omega)  e9 am) z12) rfl ?_
      refine hr_aload_n hC dX21_conditioned_25 rfl ?_
      refine hr_gA hC F23_21 rfl dX21_conditioned_26 q2863 ?_
      refine hr_iload_n hC dX21_conditioned_29 rfl ?_
      refine hr_aload_n hC dX21_conditioned_30 rfl ?_
      obtain ⟨r13, e14, h⟩ := hx_bind h
      by_cases z17 : r13.1 = 0
      · rw [ht_0 z17] at h
        refine hs_callV0 hC 23 [] _ dX21_conditioned_31 q3354 q3356 qs225 q335 q3357 np_X21 rfl OB_23 pd_X21_inParentheses (Nat.le_of_ble_eq_true rfl) hd1 (hc_M0 (r := r13) (okX21_inParentheses l E A (d - 1) n k0 (by omega)  e14 am) z17) rfl ?_
        obtain ⟨c18, h⟩ := hk_ok h
        obtain ⟨σ19, hσ19, h⟩ := hl_ok h
        refine hs_iast hC A23_21 c18 dX21_conditioned_34 ?_
        rw [← hσ19]
        refine hr_aload_n hC dX21_conditioned_35 rfl ?_
        refine hr_gA hC F23_22 rfl dX21_conditioned_36 q2864 ?_
        refine hr_iload_n hC dX21_conditioned_39 rfl ?_
        refine hr_aload_n hC dX21_conditioned_40 rfl ?_
        obtain ⟨r20, e21, h⟩ := hx_bind h
        by_cases z24 : r20.1 = 0
        · rw [ht_0 z24] at h
          refine hs_callV0 hC 23 [] _ dX21_conditioned_41 q3326 q3328 qs218 q335 q3329 np_X21 rfl OB_23 pd_X21_statement (Nat.le_of_ble_eq_true rfl) hd1 (hc_M0 (r := r20) (IH _ _ _ _ e21 am) z24) rfl ?_
          obtain ⟨c25, h⟩ := hk_ok h
          obtain ⟨σ26, hσ26, h⟩ := hl_ok h
          refine hs_iast hC A23_22 c25 dX21_conditioned_44 ?_
          rw [← hσ26]
          refine hr_iload_n hC dX21_conditioned_45 rfl ?_
          refine hr_iconst (v := 4) hC dX21_conditioned_46 rfl ?_
          obtain ⟨r29, e30, h⟩ := hx_bind h
          have J31 : r29.1 = 0 → hc_At hc_V0 E 3 X 68 [(0, .ref (E.2.1 23)), (2, .int r4.1)] [] r29.2.1 am [] := by
            intro z32
            rw [hu_0 z32] at h
            refine hr_aload_n hC dX21_conditioned_68 rfl ?_
            refine hr_dup hC dX21_conditioned_69 rfl ?_
            refine hr_gI hC F23_16 dX21_conditioned_70 q2858 ?_
            refine hr_iconst (v := 1) hC dX21_conditioned_73 rfl ?_
            refine hr_isub hC dX21_conditioned_74 ?_
            obtain ⟨σ46, hσ46, h⟩ := hl_ok h
            refine hr_pI hC F23_16 PX21_16 dX21_conditioned_75 q2858 ?_
            rw [← hσ46]
            refine hr_iload_n hC dX21_conditioned_78 rfl ?_
            obtain rfl := Option.some.inj h
            exact hr_iret hC dX21_conditioned_79
          have HX : r29.1 ≠ 0 → hc_C hc_V0 E cX21_conditioned 3 RX21 (some .int) d (.inr r29.1) r29.2.1 (l, A, am, []) X := by
            intro z32
            rw [hu_1 z32] at h
            obtain rfl := Option.some.inj h
            exact HX z32
          clear h
          have h := e30
          refine hr_icmp_ne (x := _) hC 68 dX21_conditioned_47 (by decide) (fun c28 => ?_) (fun c28 => ?_)
          · rw [if_neg c28] at h
            obtain rfl := Option.some.inj h
            exact hr_sub _ rfl (J31 rfl)
          · rw [if_pos c28] at h
            refine hr_aload_n hC dX21_conditioned_50 rfl ?_
            refine hr_iconst (v := 5) hC dX21_conditioned_51 rfl ?_
            obtain ⟨r33, e34, h⟩ := hx_bind h
            refine hs_callV0 hC 23 [_] _ dX21_conditioned_52 q3358 q3360 qs226 q335 q3361 np_X21 rfl OB_23 pd_X21_takesKey (Nat.le_of_ble_eq_true rfl) hd1 (okX21_takesKey l E A (d - 1)  (by omega)  e34 am) rfl ?_
            refine hr_if_eq (x := _) hC 68 dX21_conditioned_55 (by decide) (fun c38 => ?_) (fun c38 => ?_)
            · rw [if_pos c38] at h
              obtain rfl := Option.some.inj h
              exact hr_sub _ rfl (J31 rfl)
            · rw [if_neg c38] at h
              refine hr_aload_n hC dX21_conditioned_58 rfl ?_
              refine hr_gA hC F23_23 rfl dX21_conditioned_59 q2865 ?_
              refine hr_iload_n hC dX21_conditioned_62 rfl ?_
              refine hr_aload_n hC dX21_conditioned_63 rfl ?_
              obtain ⟨r39, e40, h⟩ := hx_bind h
              by_cases z43 : r39.1 = 0
              · rw [hv_0 z43] at h
                refine hs_callV0 hC 23 [] _ dX21_conditioned_64 q3326 q3328 qs218 q335 q3329 np_X21 rfl OB_23 pd_X21_statement (Nat.le_of_ble_eq_true rfl) hd1 (hc_M0 (r := r39) (IH _ _ _ _ e40 am) z43) rfl ?_
                obtain ⟨c44, h⟩ := hk_ok h
                obtain ⟨σ45, hσ45, h⟩ := hl_ok h
                refine hs_iast hC A23_23 c44 dX21_conditioned_67 ?_
                rw [← hσ45]
                obtain rfl := Option.some.inj h
                exact hr_sub _ rfl (J31 rfl)
              · rw [hv_1 z43] at h
                obtain rfl := Option.some.inj h
                exact hs_callVx (HX z43) hem 23 [] _ dX21_conditioned_64 q3326 q3328 qs218 q335 q3329 np_X21 rfl OB_23 pd_X21_statement (Nat.le_of_ble_eq_true rfl) hd1 (hc_M1 (r := r39) (IH _ _ _ _ e40 am) z43) (hc_rb rfl) rfl
        · rw [ht_1 z24] at h
          obtain rfl := Option.some.inj h
          exact hs_callVx (HX z24) hem 23 [] _ dX21_conditioned_41 q3326 q3328 qs218 q335 q3329 np_X21 rfl OB_23 pd_X21_statement (Nat.le_of_ble_eq_true rfl) hd1 (hc_M1 (r := r20) (IH _ _ _ _ e21 am) z24) (hc_rb rfl) rfl
      · rw [ht_1 z17] at h
        obtain rfl := Option.some.inj h
        exact hs_callVx (HX z17) hem 23 [] _ dX21_conditioned_31 q3354 q3356 qs225 q335 q3357 np_X21 rfl OB_23 pd_X21_inParentheses (Nat.le_of_ble_eq_true rfl) hd1 (hc_M1 (r := r13) (okX21_inParentheses l E A (d - 1) n k0 (by omega)  e14 am) z17) (hc_rb rfl) rfl
    · rw [ht_1 z12] at h
      obtain rfl := Option.some.inj h
      exact hs_callVx (HX z12) hem 23 [] _ dX21_conditioned_22 q3223 q3225 qs193 q335 q3226 np_X21 rfl OB_23 pd_X21_opens (Nat.le_of_ble_eq_true rfl) hd1 (hc_M1 (r := r8) (okX21_opens l E A (d - 1)  (by omega)  e9 am) z12) (hc_rb rfl) rfl
  refine hr_icmp_ne (x := _) hC 11 dX21_conditioned_3 (by decide) (fun c49 => ?_) (fun c49 => ?_)
  · refine hr_bipush (v := 25) hC dX21_conditioned_11 rfl ?_
    exact hr_sub _ rfl (J47 _ (by first | (rw [if_neg c49]; done) | (simp only [if_neg c49]; done) | rfl))
  · refine hr_bipush (v := 24) hC dX21_conditioned_6 rfl ?_
    refine hr_goto hC 13 dX21_conditioned_8 (by decide) ?_
    exact hr_sub _ rfl (J47 _ (by first | (rw [if_pos c49]; done) | (simp only [if_pos c49]; done) | rfl))
/-- HomeCompilerModel.doing()I -/
def bd_X21_doing (n : Nat) (k0 : Nat) (rec : Nat → List Int32 → hc_St → Option (Nat × Int32 × hc_St))  (σ : hc_St) : Option (Nat × Int32 × hc_St) := Option.bind (fm_X21_make 26 ((gI σ 23 15)) σ) fun r1 => Option.bind (fm_X21_opens  r1.2) fun r5 => ht r5 <| Option.bind (rec 1 [] r5.2.2) fun r10 => ht r10 <| hk (inb r1.1 (gL r10.2.2 23 22)) <| hl (pC r10.2.2 23 22 r1.1 r10.2.1) fun σ16 => Option.bind (fm_X21_takesKey 6 σ16) fun r17 => Option.bind (fm_X21_need r17.1 r17.2) fun r21 => ht r21 <| Option.bind (fm_X21_inParentheses n k0 r21.2.2) fun r26 => ht r26 <| hk (inb r1.1 (gL r26.2.2 23 21)) <| hl (pC r26.2.2 23 21 r1.1 r26.2.1) fun σ32 => Option.bind (fm_X21_take 81 σ32) fun r33 => ht r33 <| hl (pI r33.2.2 23 16 ((((gI r33.2.2 23 16)) - 1))) fun σ38 => some (0, r1.1, σ38)
set_option maxRecDepth 20000 in
set_option maxHeartbeats 4000000 in
theorem okbX21_doing (l : Launch) (E : hc_E) (A : Nat → Prop) (d : Nat) {kk : Nat} (n : Nat) (k0 : Nat) (rec : Nat → List Int32 → hc_St → Option (Nat × Int32 × hc_St)) (hD : kk + 1 * k0 + 22 ≤ d) (IH : ∀ (w : Nat) (a : List Int32) (σ : hc_St) (r : (Nat × Int32 × hc_St)), rec w a σ = some r → ∀ am, okg_X21_block l E A (d - 1) am w a σ r)  {σ : hc_St} {r : (Nat × Int32 × hc_St)} (h : bd_X21_doing n k0 rec  σ = some r) (am : Nat → Nat → Nat) : hc_M l hc_V0 yX21_doing (ws_ yX21_doing cX21_doing 2 (some .int)) d E A [.ref (E.2.1 23)] am [] σ (hc_ot (fun v => some (.int v)) r) r.2.2 := by
  have hd1 : 1 ≤ d := by omega
  have hd8 : 9 ≤ d := by omega
  have hd12 : 12 ≤ d := by omega
  refine hc_enter2 (own := RX21) [(0, .ref (E.2.1 23))] pl_X21 rfl hc_V0_st hc_G0_nd rfl (Nat.le_of_ble_eq_true rfl) (fun X hC hem => ?_)
  have HX := fun z => hc_CX hC z
  unfold bd_X21_doing at h
  refine hr_aload_n hC dX21_doing_0 rfl ?_
  refine hr_bipush (v := 26) hC dX21_doing_1 rfl ?_
  refine hr_aload_n hC dX21_doing_3 rfl ?_
  refine hr_gI hC F23_15 dX21_doing_4 q2857 ?_
  obtain ⟨r1, e2, h⟩ := hx_bind h
  refine hs_callV0 hC 23 [_, _] _ dX21_doing_7 q3194 q3196 qs188 q335 q3197 np_X21 rfl OB_23 pd_X21_make (Nat.le_of_ble_eq_true rfl) hd1 (okX21_make l E A (d - 1)  (by omega)  e2 am) rfl ?_
  refine hr_istore_n hC dX21_doing_10 (by decide) ?_
  refine hr_aload_n hC dX21_doing_11 rfl ?_
  obtain ⟨r5, e6, h⟩ := hx_bind h
  by_cases z9 : r5.1 = 0
  · rw [ht_0 z9] at h
    refine hs_callV0 hC 23 [] _ dX21_doing_12 q3223 q3225 qs193 q335 q3226 np_X21 rfl OB_23 pd_X21_opens (Nat.le_of_ble_eq_true rfl) hd1 (hc_M0 (r := r5) (okX21_opens l E A (d - 1)  (by omega)  e6 am) z9) rfl ?_
    refine hr_aload_n hC dX21_doing_15 rfl ?_
    refine hr_gA hC F23_22 rfl dX21_doing_16 q2864 ?_
    refine hr_iload_n hC dX21_doing_19 rfl ?_
    refine hr_aload_n hC dX21_doing_20 rfl ?_
    obtain ⟨r10, e11, h⟩ := hx_bind h
    by_cases z14 : r10.1 = 0
    · rw [ht_0 z14] at h
      refine hs_callV0 hC 23 [] _ dX21_doing_21 q3326 q3328 qs218 q335 q3329 np_X21 rfl OB_23 pd_X21_statement (Nat.le_of_ble_eq_true rfl) hd1 (hc_M0 (r := r10) (IH _ _ _ _ e11 am) z14) rfl ?_
      obtain ⟨c15, h⟩ := hk_ok h
      obtain ⟨σ16, hσ16, h⟩ := hl_ok h
      refine hs_iast hC A23_22 c15 dX21_doing_24 ?_
      rw [← hσ16]
      refine hr_aload_n hC dX21_doing_25 rfl ?_
      refine hr_aload_n hC dX21_doing_26 rfl ?_
      refine hr_bipush (v := 6) hC dX21_doing_27 rfl ?_
      obtain ⟨r17, e18, h⟩ := hx_bind h
      refine hs_callV0 hC 23 [_] _ dX21_doing_29 q3358 q3360 qs226 q335 q3361 np_X21 rfl OB_23 pd_X21_takesKey (Nat.le_of_ble_eq_true rfl) hd1 (okX21_takesKey l E A (d - 1)  (by omega)  e18 am) rfl ?_
      obtain ⟨r21, e22, h⟩ := hx_bind h
      by_cases z25 : r21.1 = 0
      · rw [ht_0 z25] at h
        refine hs_callV0 hC 23 [_] _ dX21_doing_32 q3218 q3220 qs192 q335 q3221 np_X21 rfl OB_23 pd_X21_need (Nat.le_of_ble_eq_true rfl) hd1 (hc_M0 (r := r21) (okX21_need l E A (d - 1)  (by omega)  e22 am) z25) rfl ?_
        refine hr_aload_n hC dX21_doing_35 rfl ?_
        refine hr_gA hC F23_21 rfl dX21_doing_36 q2863 ?_
        refine hr_iload_n hC dX21_doing_39 rfl ?_
        refine hr_aload_n hC dX21_doing_40 rfl ?_
        obtain ⟨r26, e27, h⟩ := hx_bind h
        by_cases z30 : r26.1 = 0
        · rw [ht_0 z30] at h
          refine hs_callV0 hC 23 [] _ dX21_doing_41 q3354 q3356 qs225 q335 q3357 np_X21 rfl OB_23 pd_X21_inParentheses (Nat.le_of_ble_eq_true rfl) hd1 (hc_M0 (r := r26) (okX21_inParentheses l E A (d - 1) n k0 (by omega)  e27 am) z30) rfl ?_
          obtain ⟨c31, h⟩ := hk_ok h
          obtain ⟨σ32, hσ32, h⟩ := hl_ok h
          refine hs_iast hC A23_21 c31 dX21_doing_44 ?_
          rw [← hσ32]
          refine hr_aload_n hC dX21_doing_45 rfl ?_
          refine hr_ldcs (v := 81) 81 hC dX21_doing_46 (List.mem_of_getElem? (i := 81) rfl) (by decide) rfl ?_
          obtain ⟨r33, e34, h⟩ := hx_bind h
          by_cases z37 : r33.1 = 0
          · rw [ht_0 z37] at h
            refine hs_callV0 hC 23 [_] _ dX21_doing_48 q3282 q3284 qs207 q335 q3285 np_X21 rfl OB_23 pd_X21_take (Nat.le_of_ble_eq_true rfl) hd1 (hc_M0 (r := r33) (okX21_take l E A (d - 1)  (by omega)  e34 am) z37) rfl ?_
            refine hr_aload_n hC dX21_doing_51 rfl ?_
            refine hr_dup hC dX21_doing_52 rfl ?_
            refine hr_gI hC F23_16 dX21_doing_53 q2858 ?_
            refine hr_iconst (v := 1) hC dX21_doing_56 rfl ?_
            refine hr_isub hC dX21_doing_57 ?_
            obtain ⟨σ38, hσ38, h⟩ := hl_ok h
            refine hr_pI hC F23_16 PX21_16 dX21_doing_58 q2858 ?_
            rw [← hσ38]
            refine hr_iload_n hC dX21_doing_61 rfl ?_
            obtain rfl := Option.some.inj h
            exact hr_iret hC dX21_doing_62
          · rw [ht_1 z37] at h
            obtain rfl := Option.some.inj h
            exact hs_callVx (HX z37) hem 23 [_] _ dX21_doing_48 q3282 q3284 qs207 q335 q3285 np_X21 rfl OB_23 pd_X21_take (Nat.le_of_ble_eq_true rfl) hd1 (hc_M1 (r := r33) (okX21_take l E A (d - 1)  (by omega)  e34 am) z37) (hc_rb rfl) rfl
        · rw [ht_1 z30] at h
          obtain rfl := Option.some.inj h
          exact hs_callVx (HX z30) hem 23 [] _ dX21_doing_41 q3354 q3356 qs225 q335 q3357 np_X21 rfl OB_23 pd_X21_inParentheses (Nat.le_of_ble_eq_true rfl) hd1 (hc_M1 (r := r26) (okX21_inParentheses l E A (d - 1) n k0 (by omega)  e27 am) z30) (hc_rb rfl) rfl
      · rw [ht_1 z25] at h
        obtain rfl := Option.some.inj h
        exact hs_callVx (HX z25) hem 23 [_] _ dX21_doing_32 q3218 q3220 qs192 q335 q3221 np_X21 rfl OB_23 pd_X21_need (Nat.le_of_ble_eq_true rfl) hd1 (hc_M1 (r := r21) (okX21_need l E A (d - 1)  (by omega)  e22 am) z25) (hc_rb rfl) rfl
    · rw [ht_1 z14] at h
      obtain rfl := Option.some.inj h
      exact hs_callVx (HX z14) hem 23 [] _ dX21_doing_21 q3326 q3328 qs218 q335 q3329 np_X21 rfl OB_23 pd_X21_statement (Nat.le_of_ble_eq_true rfl) hd1 (hc_M1 (r := r10) (IH _ _ _ _ e11 am) z14) (hc_rb rfl) rfl
  · rw [ht_1 z9] at h
    obtain rfl := Option.some.inj h
    exact hs_callVx (HX z9) hem 23 [] _ dX21_doing_12 q3223 q3225 qs193 q335 q3226 np_X21 rfl OB_23 pd_X21_opens (Nat.le_of_ble_eq_true rfl) hd1 (hc_M1 (r := r5) (okX21_opens l E A (d - 1)  (by omega)  e6 am) z9) (hc_rb rfl) rfl
/-- HomeCompilerModel.forLoop()I -/
def bd_X21_forLoop (n : Nat) (k0 : Nat) (rec : Nat → List Int32 → hc_St → Option (Nat × Int32 × hc_St))  (σ : hc_St) : Option (Nat × Int32 × hc_St) := Option.bind (fm_X21_make 27 ((gI σ 23 15)) σ) fun r1 => Option.bind (fm_X21_opens  r1.2) fun r5 => ht r5 <| Option.bind (fm_X21_opensMark 74 r5.2.2) fun r10 => ht r10 <| Option.bind (fm_X21_isType  r10.2.2) fun r15 => Option.bind (α := Nat × hc_St × Int32) (if r15 = 0 then (Option.bind (fm_X21_takes 81 r10.2.2) fun r25 => if r25.1 = 0 then (Option.bind (fm_X21_make 22 ((gI r25.2 23 15)) r25.2) fun r31 => Option.bind (fm_X21_expression n k0 r31.2) fun r35 => hv r35 (0) <| hk (inb r31.1 (gL r35.2.2 23 21)) <| hl (pC r35.2.2 23 21 r31.1 r35.2.1) fun σ41 => hk (inb r1.1 (gL σ41 23 21)) <| hl (pC σ41 23 21 r1.1 r31.1) fun σ43 => Option.bind (fm_X21_take 81 σ43) fun r44 => hv r44 (0) <| some (0, r44.2.2, (0 : Int32))) else (some (0, r25.2, (0 : Int32)))) else (Option.bind (fm_X21_declaration n k0 r10.2.2) fun r49 => hv r49 (0) <| hk (inb r1.1 (gL r49.2.2 23 21)) <| hl (pC r49.2.2 23 21 r1.1 r49.2.1) fun σ55 => some (0, σ55, (0 : Int32)))) fun r21 => hu r21 <| Option.bind (fm_X21_is 81 r21.2.1) fun r56 => Option.bind (α := Nat × hc_St × Int32) (if r56 = 0 then (Option.bind (fm_X21_expression n k0 r21.2.1) fun r66 => hv r66 (0) <| hk (inb r1.1 (gL r66.2.2 23 22)) <| hl (pC r66.2.2 23 22 r1.1 r66.2.1) fun σ72 => some (0, σ72, (0 : Int32))) else (some (0, r21.2.1, (0 : Int32)))) fun r62 => hu r62 <| Option.bind (fm_X21_take 81 r62.2.1) fun r73 => ht r73 <| Option.bind (fm_X21_is 75 r73.2.2) fun r78 => Option.bind (α := Nat × hc_St × Int32) (if r78 = 0 then (Option.bind (fm_X21_expression n k0 r73.2.2) fun r88 => hv r88 (0) <| hk (inb r1.1 (gL r88.2.2 23 23)) <| hl (pC r88.2.2 23 23 r1.1 r88.2.1) fun σ94 => some (0, σ94, (0 : Int32))) else (some (0, r73.2.2, (0 : Int32)))) fun r84 => hu r84 <| Option.bind (fm_X21_closes 75 r84.2.1) fun r95 => ht r95 <| Option.bind (rec 1 [] r95.2.2) fun r100 => ht r100 <| hk (inb r1.1 (gL r100.2.2 23 24)) <| hl (pC r100.2.2 23 24 r1.1 r100.2.1) fun σ106 => hl (pI σ106 23 16 ((((gI σ106 23 16)) - 1))) fun σ107 => some (0, r1.1, σ107)
set_option maxRecDepth 20000 in
set_option maxHeartbeats 4000000 in
theorem okbX21_forLoop (l : Launch) (E : hc_E) (A : Nat → Prop) (d : Nat) {kk : Nat} (n : Nat) (k0 : Nat) (rec : Nat → List Int32 → hc_St → Option (Nat × Int32 × hc_St)) (hD : kk + 1 * k0 + 22 ≤ d) (IH : ∀ (w : Nat) (a : List Int32) (σ : hc_St) (r : (Nat × Int32 × hc_St)), rec w a σ = some r → ∀ am, okg_X21_block l E A (d - 1) am w a σ r)  {σ : hc_St} {r : (Nat × Int32 × hc_St)} (h : bd_X21_forLoop n k0 rec  σ = some r) (am : Nat → Nat → Nat) : hc_M l hc_V0 yX21_forLoop (ws_ yX21_forLoop cX21_forLoop 3 (some .int)) d E A [.ref (E.2.1 23)] am [] σ (hc_ot (fun v => some (.int v)) r) r.2.2 := by
  have hd1 : 1 ≤ d := by omega
  have hd8 : 9 ≤ d := by omega
  have hd12 : 12 ≤ d := by omega
  refine hc_enter2 (own := RX21) [(0, .ref (E.2.1 23))] pl_X21 rfl hc_V0_st hc_G0_nd rfl (Nat.le_of_ble_eq_true rfl) (fun X hC hem => ?_)
  have HX := fun z => hc_CX hC z
  unfold bd_X21_forLoop at h
  refine hr_aload_n hC dX21_forLoop_0 rfl ?_
  refine hr_bipush (v := 27) hC dX21_forLoop_1 rfl ?_
  refine hr_aload_n hC dX21_forLoop_3 rfl ?_
  refine hr_gI hC F23_15 dX21_forLoop_4 q2857 ?_
  obtain ⟨r1, e2, h⟩ := hx_bind h
  refine hs_callV0 hC 23 [_, _] _ dX21_forLoop_7 q3194 q3196 qs188 q335 q3197 np_X21 rfl OB_23 pd_X21_make (Nat.le_of_ble_eq_true rfl) hd1 (okX21_make l E A (d - 1)  (by omega)  e2 am) rfl ?_
  refine hr_istore_n hC dX21_forLoop_10 (by decide) ?_
  refine hr_aload_n hC dX21_forLoop_11 rfl ?_
  obtain ⟨r5, e6, h⟩ := hx_bind h
  by_cases z9 : r5.1 = 0
  · rw [ht_0 z9] at h
    refine hs_callV0 hC 23 [] _ dX21_forLoop_12 q3223 q3225 qs193 q335 q3226 np_X21 rfl OB_23 pd_X21_opens (Nat.le_of_ble_eq_true rfl) hd1 (hc_M0 (r := r5) (okX21_opens l E A (d - 1)  (by omega)  e6 am) z9) rfl ?_
    refine hr_aload_n hC dX21_forLoop_15 rfl ?_
    refine hr_ldcs (v := 74) 74 hC dX21_forLoop_16 (List.mem_of_getElem? (i := 74) rfl) (by decide) rfl ?_
    obtain ⟨r10, e11, h⟩ := hx_bind h
    by_cases z14 : r10.1 = 0
    · rw [ht_0 z14] at h
      refine hs_callV0 hC 23 [_] _ dX21_forLoop_18 q3198 q3200 qs189 q335 q3201 np_X21 rfl OB_23 pd_X21_opensMark (Nat.le_of_ble_eq_true rfl) hd1 (hc_M0 (r := r10) (okX21_opensMark l E A (d - 1)  (by omega)  e11 am) z14) rfl ?_
      refine hr_aload_n hC dX21_forLoop_21 rfl ?_
      obtain ⟨r15, e16, h⟩ := hx_bind h
      refine hs_callV0 hC 23 [] _ dX21_forLoop_22 q3310 q3312 qs214 q335 q3313 np_X21 rfl OB_23 pd_X21_isType (Nat.le_of_ble_eq_true rfl) hd1 (okX21_isType l E A (d - 1)  (by omega)  e16 am) rfl ?_
      obtain ⟨r21, e22, h⟩ := hx_bind h
      have J23 : r21.1 = 0 → hc_At hc_V0 E 3 X 84 [(0, .ref (E.2.1 23)), (1, .int r1.1)] [] r21.2.1 am [] := by
        intro z24
        rw [hu_0 z24] at h
        refine hr_aload_n hC dX21_forLoop_84 rfl ?_
        refine hr_ldcs (v := 81) 81 hC dX21_forLoop_85 (List.mem_of_getElem? (i := 81) rfl) (by decide) rfl ?_
        obtain ⟨r56, e57, h⟩ := hx_bind h
        refine hs_callV0 hC 23 [_] _ dX21_forLoop_87 q3202 q3204 qs190 q335 q3205 np_X21 rfl OB_23 pd_X21_is (Nat.le_of_ble_eq_true rfl) hd1 (okX21_is l E A (d - 1)  (by omega)  e57 am) rfl ?_
        obtain ⟨r62, e63, h⟩ := hx_bind h
        have J64 : r62.1 = 0 → hc_At hc_V0 E 3 X 103 [(0, .ref (E.2.1 23)), (1, .int r1.1)] [] r62.2.1 am [] := by
          intro z65
          rw [hu_0 z65] at h
          refine hr_aload_n hC dX21_forLoop_103 rfl ?_
          refine hr_ldcs (v := 81) 81 hC dX21_forLoop_104 (List.mem_of_getElem? (i := 81) rfl) (by decide) rfl ?_
          obtain ⟨r73, e74, h⟩ := hx_bind h
          by_cases z77 : r73.1 = 0
          · rw [ht_0 z77] at h
            refine hs_callV0 hC 23 [_] _ dX21_forLoop_106 q3282 q3284 qs207 q335 q3285 np_X21 rfl OB_23 pd_X21_take (Nat.le_of_ble_eq_true rfl) hd1 (hc_M0 (r := r73) (okX21_take l E A (d - 1)  (by omega)  e74 am) z77) rfl ?_
            refine hr_aload_n hC dX21_forLoop_109 rfl ?_
            refine hr_ldcs (v := 75) 75 hC dX21_forLoop_110 (List.mem_of_getElem? (i := 75) rfl) (by decide) rfl ?_
            obtain ⟨r78, e79, h⟩ := hx_bind h
            refine hs_callV0 hC 23 [_] _ dX21_forLoop_112 q3202 q3204 qs190 q335 q3205 np_X21 rfl OB_23 pd_X21_is (Nat.le_of_ble_eq_true rfl) hd1 (okX21_is l E A (d - 1)  (by omega)  e79 am) rfl ?_
            obtain ⟨r84, e85, h⟩ := hx_bind h
            have J86 : r84.1 = 0 → hc_At hc_V0 E 3 X 128 [(0, .ref (E.2.1 23)), (1, .int r1.1)] [] r84.2.1 am [] := by
              intro z87
              rw [hu_0 z87] at h
              refine hr_aload_n hC dX21_forLoop_128 rfl ?_
              refine hr_ldcs (v := 75) 75 hC dX21_forLoop_129 (List.mem_of_getElem? (i := 75) rfl) (by decide) rfl ?_
              obtain ⟨r95, e96, h⟩ := hx_bind h
              by_cases z99 : r95.1 = 0
              · rw [ht_0 z99] at h
                refine hs_callV0 hC 23 [_] _ dX21_forLoop_131 q3278 q3280 qs206 q335 q3281 np_X21 rfl OB_23 pd_X21_closes (Nat.le_of_ble_eq_true rfl) hd1 (hc_M0 (r := r95) (okX21_closes l E A (d - 1)  (by omega)  e96 am) z99) rfl ?_
                refine hr_aload_n hC dX21_forLoop_134 rfl ?_
                refine hr_gA hC F23_24 rfl dX21_forLoop_135 q2866 ?_
                refine hr_iload_n hC dX21_forLoop_138 rfl ?_
                refine hr_aload_n hC dX21_forLoop_139 rfl ?_
                obtain ⟨r100, e101, h⟩ := hx_bind h
                by_cases z104 : r100.1 = 0
                · rw [ht_0 z104] at h
                  refine hs_callV0 hC 23 [] _ dX21_forLoop_140 q3326 q3328 qs218 q335 q3329 np_X21 rfl OB_23 pd_X21_statement (Nat.le_of_ble_eq_true rfl) hd1 (hc_M0 (r := r100) (IH _ _ _ _ e101 am) z104) rfl ?_
                  obtain ⟨c105, h⟩ := hk_ok h
                  obtain ⟨σ106, hσ106, h⟩ := hl_ok h
                  refine hs_iast hC A23_24 c105 dX21_forLoop_143 ?_
                  rw [← hσ106]
                  refine hr_aload_n hC dX21_forLoop_144 rfl ?_
                  refine hr_dup hC dX21_forLoop_145 rfl ?_
                  refine hr_gI hC F23_16 dX21_forLoop_146 q2858 ?_
                  refine hr_iconst (v := 1) hC dX21_forLoop_149 rfl ?_
                  refine hr_isub hC dX21_forLoop_150 ?_
                  obtain ⟨σ107, hσ107, h⟩ := hl_ok h
                  refine hr_pI hC F23_16 PX21_16 dX21_forLoop_151 q2858 ?_
                  rw [← hσ107]
                  refine hr_iload_n hC dX21_forLoop_154 rfl ?_
                  obtain rfl := Option.some.inj h
                  exact hr_iret hC dX21_forLoop_155
                · rw [ht_1 z104] at h
                  obtain rfl := Option.some.inj h
                  exact hs_callVx (HX z104) hem 23 [] _ dX21_forLoop_140 q3326 q3328 qs218 q335 q3329 np_X21 rfl OB_23 pd_X21_statement (Nat.le_of_ble_eq_true rfl) hd1 (hc_M1 (r := r100) (IH _ _ _ _ e101 am) z104) (hc_rb rfl) rfl
              · rw [ht_1 z99] at h
                obtain rfl := Option.some.inj h
                exact hs_callVx (HX z99) hem 23 [_] _ dX21_forLoop_131 q3278 q3280 qs206 q335 q3281 np_X21 rfl OB_23 pd_X21_closes (Nat.le_of_ble_eq_true rfl) hd1 (hc_M1 (r := r95) (okX21_closes l E A (d - 1)  (by omega)  e96 am) z99) (hc_rb rfl) rfl
            have HX : r84.1 ≠ 0 → hc_C hc_V0 E cX21_forLoop 3 RX21 (some .int) d (.inr r84.1) r84.2.1 (l, A, am, []) X := by
              intro z87
              rw [hu_1 z87] at h
              obtain rfl := Option.some.inj h
              exact HX z87
            clear h
            have h := e85
            refine hr_if_ne (x := _) hC 128 dX21_forLoop_115 (by decide) (fun c83 => ?_) (fun c83 => ?_)
            · rw [if_neg c83] at h
              obtain rfl := Option.some.inj h
              exact hr_sub _ rfl (J86 rfl)
            · rw [if_pos c83] at h
              refine hr_aload_n hC dX21_forLoop_118 rfl ?_
              refine hr_gA hC F23_23 rfl dX21_forLoop_119 q2865 ?_
              refine hr_iload_n hC dX21_forLoop_122 rfl ?_
              refine hr_aload_n hC dX21_forLoop_123 rfl ?_
              obtain ⟨r88, e89, h⟩ := hx_bind h
              by_cases z92 : r88.1 = 0
              · rw [hv_0 z92] at h
                refine hs_callV0 hC 23 [] _ dX21_forLoop_124 q3263 q3265 qs203 q335 q3266 np_X21 rfl OB_23 pd_X21_expression (Nat.le_of_ble_eq_true rfl) hd1 (hc_M0 (r := r88) (okX21_expression l E A (d - 1) n k0 (by omega)  e89 am) z92) rfl ?_
                obtain ⟨c93, h⟩ := hk_ok h
                obtain ⟨σ94, hσ94, h⟩ := hl_ok h
                refine hs_iast hC A23_23 c93 dX21_forLoop_127 ?_
                rw [← hσ94]
                obtain rfl := Option.some.inj h
                exact hr_sub _ rfl (J86 rfl)
              · rw [hv_1 z92] at h
                obtain rfl := Option.some.inj h
                exact hs_callVx (HX z92) hem 23 [] _ dX21_forLoop_124 q3263 q3265 qs203 q335 q3266 np_X21 rfl OB_23 pd_X21_expression (Nat.le_of_ble_eq_true rfl) hd1 (hc_M1 (r := r88) (okX21_expression l E A (d - 1) n k0 (by omega)  e89 am) z92) (hc_rb rfl) rfl
          · rw [ht_1 z77] at h
            obtain rfl := Option.some.inj h
            exact hs_callVx (HX z77) hem 23 [_] _ dX21_forLoop_106 q3282 q3284 qs207 q335 q3285 np_X21 rfl OB_23 pd_X21_take (Nat.le_of_ble_eq_true rfl) hd1 (hc_M1 (r := r73) (okX21_take l E A (d - 1)  (by omega)  e74 am) z77) (hc_rb rfl) rfl
        have HX : r62.1 ≠ 0 → hc_C hc_V0 E cX21_forLoop 3 RX21 (some .int) d (.inr r62.1) r62.2.1 (l, A, am, []) X := by
          intro z65
          rw [hu_1 z65] at h
          obtain rfl := Option.some.inj h
          exact HX z65
        clear h
        have h := e63
        refine hr_if_ne (x := _) hC 103 dX21_forLoop_90 (by decide) (fun c61 => ?_) (fun c61 => ?_)
        · rw [if_neg c61] at h
          obtain rfl := Option.some.inj h
          exact hr_sub _ rfl (J64 rfl)
        · rw [if_pos c61] at h
          refine hr_aload_n hC dX21_forLoop_93 rfl ?_
          refine hr_gA hC F23_22 rfl dX21_forLoop_94 q2864 ?_
          refine hr_iload_n hC dX21_forLoop_97 rfl ?_
          refine hr_aload_n hC dX21_forLoop_98 rfl ?_
          obtain ⟨r66, e67, h⟩ := hx_bind h
          by_cases z70 : r66.1 = 0
          · rw [hv_0 z70] at h
            refine hs_callV0 hC 23 [] _ dX21_forLoop_99 q3263 q3265 qs203 q335 q3266 np_X21 rfl OB_23 pd_X21_expression (Nat.le_of_ble_eq_true rfl) hd1 (hc_M0 (r := r66) (okX21_expression l E A (d - 1) n k0 (by omega)  e67 am) z70) rfl ?_
            obtain ⟨c71, h⟩ := hk_ok h
            obtain ⟨σ72, hσ72, h⟩ := hl_ok h
            refine hs_iast hC A23_22 c71 dX21_forLoop_102 ?_
            rw [← hσ72]
            obtain rfl := Option.some.inj h
            exact hr_sub _ rfl (J64 rfl)
          · rw [hv_1 z70] at h
            obtain rfl := Option.some.inj h
            exact hs_callVx (HX z70) hem 23 [] _ dX21_forLoop_99 q3263 q3265 qs203 q335 q3266 np_X21 rfl OB_23 pd_X21_expression (Nat.le_of_ble_eq_true rfl) hd1 (hc_M1 (r := r66) (okX21_expression l E A (d - 1) n k0 (by omega)  e67 am) z70) (hc_rb rfl) rfl
      have HX : r21.1 ≠ 0 → hc_C hc_V0 E cX21_forLoop 3 RX21 (some .int) d (.inr r21.1) r21.2.1 (l, A, am, []) X := by
        intro z24
        rw [hu_1 z24] at h
        obtain rfl := Option.some.inj h
        exact HX z24
      clear h
      have h := e22
      refine hr_if_eq (x := _) hC 41 dX21_forLoop_25 (by decide) (fun c20 => ?_) (fun c20 => ?_)
      · rw [if_pos c20] at h
        refine hr_aload_n hC dX21_forLoop_41 rfl ?_
        refine hr_ldcs (v := 81) 81 hC dX21_forLoop_42 (List.mem_of_getElem? (i := 81) rfl) (by decide) rfl ?_
        obtain ⟨r25, e26, h⟩ := hx_bind h
        refine hs_callV0 hC 23 [_] _ dX21_forLoop_44 q3231 q3233 qs195 q335 q3234 np_X21 rfl OB_23 pd_X21_takes (Nat.le_of_ble_eq_true rfl) hd1 (okX21_takes l E A (d - 1)  (by omega)  e26 am) rfl ?_
        refine hr_if_ne (x := _) hC 84 dX21_forLoop_47 (by decide) (fun c30 => ?_) (fun c30 => ?_)
        · rw [if_neg c30] at h
          obtain rfl := Option.some.inj h
          exact hr_sub _ rfl (J23 rfl)
        · rw [if_pos c30] at h
          refine hr_aload_n hC dX21_forLoop_50 rfl ?_
          refine hr_bipush (v := 22) hC dX21_forLoop_51 rfl ?_
          refine hr_aload_n hC dX21_forLoop_53 rfl ?_
          refine hr_gI hC F23_15 dX21_forLoop_54 q2857 ?_
          obtain ⟨r31, e32, h⟩ := hx_bind h
          refine hs_callV0 hC 23 [_, _] _ dX21_forLoop_57 q3194 q3196 qs188 q335 q3197 np_X21 rfl OB_23 pd_X21_make (Nat.le_of_ble_eq_true rfl) hd1 (okX21_make l E A (d - 1)  (by omega)  e32 am) rfl ?_
          refine hr_istore_n hC dX21_forLoop_60 (by decide) ?_
          refine hr_aload_n hC dX21_forLoop_61 rfl ?_
          refine hr_gA hC F23_21 rfl dX21_forLoop_62 q2863 ?_
          refine hr_iload_n hC dX21_forLoop_65 rfl ?_
          refine hr_aload_n hC dX21_forLoop_66 rfl ?_
          obtain ⟨r35, e36, h⟩ := hx_bind h
          by_cases z39 : r35.1 = 0
          · rw [hv_0 z39] at h
            refine hs_callV0 hC 23 [] _ dX21_forLoop_67 q3263 q3265 qs203 q335 q3266 np_X21 rfl OB_23 pd_X21_expression (Nat.le_of_ble_eq_true rfl) hd1 (hc_M0 (r := r35) (okX21_expression l E A (d - 1) n k0 (by omega)  e36 am) z39) rfl ?_
            obtain ⟨c40, h⟩ := hk_ok h
            obtain ⟨σ41, hσ41, h⟩ := hl_ok h
            refine hs_iast hC A23_21 c40 dX21_forLoop_70 ?_
            rw [← hσ41]
            refine hr_aload_n hC dX21_forLoop_71 rfl ?_
            refine hr_gA hC F23_21 rfl dX21_forLoop_72 q2863 ?_
            refine hr_iload_n hC dX21_forLoop_75 rfl ?_
            refine hr_iload_n hC dX21_forLoop_76 rfl ?_
            obtain ⟨c42, h⟩ := hk_ok h
            obtain ⟨σ43, hσ43, h⟩ := hl_ok h
            refine hs_iast hC A23_21 c42 dX21_forLoop_77 ?_
            rw [← hσ43]
            refine hr_aload_n hC dX21_forLoop_78 rfl ?_
            refine hr_ldcs (v := 81) 81 hC dX21_forLoop_79 (List.mem_of_getElem? (i := 81) rfl) (by decide) rfl ?_
            obtain ⟨r44, e45, h⟩ := hx_bind h
            by_cases z48 : r44.1 = 0
            · rw [hv_0 z48] at h
              refine hs_callV0 hC 23 [_] _ dX21_forLoop_81 q3282 q3284 qs207 q335 q3285 np_X21 rfl OB_23 pd_X21_take (Nat.le_of_ble_eq_true rfl) hd1 (hc_M0 (r := r44) (okX21_take l E A (d - 1)  (by omega)  e45 am) z48) rfl ?_
              obtain rfl := Option.some.inj h
              exact hr_sub _ rfl (J23 rfl)
            · rw [hv_1 z48] at h
              obtain rfl := Option.some.inj h
              exact hs_callVx (HX z48) hem 23 [_] _ dX21_forLoop_81 q3282 q3284 qs207 q335 q3285 np_X21 rfl OB_23 pd_X21_take (Nat.le_of_ble_eq_true rfl) hd1 (hc_M1 (r := r44) (okX21_take l E A (d - 1)  (by omega)  e45 am) z48) (hc_rb rfl) rfl
          · rw [hv_1 z39] at h
            obtain rfl := Option.some.inj h
            exact hs_callVx (HX z39) hem 23 [] _ dX21_forLoop_67 q3263 q3265 qs203 q335 q3266 np_X21 rfl OB_23 pd_X21_expression (Nat.le_of_ble_eq_true rfl) hd1 (hc_M1 (r := r35) (okX21_expression l E A (d - 1) n k0 (by omega)  e36 am) z39) (hc_rb rfl) rfl
      · rw [if_neg c20] at h
        refine hr_aload_n hC dX21_forLoop_28 rfl ?_
        refine hr_gA hC F23_21 rfl dX21_forLoop_29 q2863 ?_
        refine hr_iload_n hC dX21_forLoop_32 rfl ?_
        refine hr_aload_n hC dX21_forLoop_33 rfl ?_
        obtain ⟨r49, e50, h⟩ := hx_bind h
        by_cases z53 : r49.1 = 0
        · rw [hv_0 z53] at h
          refine hs_callV0 hC 23 [] _ dX21_forLoop_34 q3330 q3332 qs219 q335 q3333 np_X21 rfl OB_23 pd_X21_declaration (Nat.le_of_ble_eq_true rfl) hd1 (hc_M0 (r := r49) (okX21_declaration l E A (d - 1) n k0 (by omega)  e50 am) z53) rfl ?_
          obtain ⟨c54, h⟩ := hk_ok h
          obtain ⟨σ55, hσ55, h⟩ := hl_ok h
          refine hs_iast hC A23_21 c54 dX21_forLoop_37 ?_
          rw [← hσ55]
          refine hr_goto hC 84 dX21_forLoop_38 (by decide) ?_
          obtain rfl := Option.some.inj h
          exact hr_sub _ rfl (J23 rfl)
        · rw [hv_1 z53] at h
          obtain rfl := Option.some.inj h
          exact hs_callVx (HX z53) hem 23 [] _ dX21_forLoop_34 q3330 q3332 qs219 q335 q3333 np_X21 rfl OB_23 pd_X21_declaration (Nat.le_of_ble_eq_true rfl) hd1 (hc_M1 (r := r49) (okX21_declaration l E A (d - 1) n k0 (by omega)  e50 am) z53) (hc_rb rfl) rfl
    · rw [ht_1 z14] at h
      obtain rfl := Option.some.inj h
      exact hs_callVx (HX z14) hem 23 [_] _ dX21_forLoop_18 q3198 q3200 qs189 q335 q3201 np_X21 rfl OB_23 pd_X21_opensMark (Nat.le_of_ble_eq_true rfl) hd1 (hc_M1 (r := r10) (okX21_opensMark l E A (d - 1)  (by omega)  e11 am) z14) (hc_rb rfl) rfl
  · rw [ht_1 z9] at h
    obtain rfl := Option.some.inj h
    exact hs_callVx (HX z9) hem 23 [] _ dX21_forLoop_12 q3223 q3225 qs193 q335 q3226 np_X21 rfl OB_23 pd_X21_opens (Nat.le_of_ble_eq_true rfl) hd1 (hc_M1 (r := r5) (okX21_opens l E A (d - 1)  (by omega)  e6 am) z9) (hc_rb rfl) rfl
def lp_X21_switching_33 (n : Nat) (k0 : Nat) (rec : Nat → List Int32 → hc_St → Option (Nat × Int32 × hc_St)) : Nat → Int32 → Int32 → hc_St → Option (Nat × hc_St × Int32)
  | 0, _, _, _ => none
  | m + 1, y1, y2, σ => Option.bind (fm_X21_is 77 σ) fun r22 => if r22 = 0 then (Option.bind (fm_X21_isKey 10 σ) fun r28 => Option.bind (α := Nat × hc_St × Int32) (if r28 = 0 then (Option.bind (fm_X21_isKey 11 σ) fun r38 => if r38 = 0 then (hl (α := Int32) ((if y2 < 0 then 0 else 1)) fun v46 => Option.bind (fm_X21_need v46 σ) fun r47 => hv r47 (0) <| Option.bind (rec 1 [] r47.2.2) fun r52 => hv r52 (0) <| some (0, r52.2.2, r52.2.1)) else (Option.bind (fm_X21_make 30 ((gI σ 23 15)) σ) fun r60 => hl (pI r60.2 23 15 ((((gI r60.2 23 15)) + 1))) fun σ64 => Option.bind (fm_X21_take 82 σ64) fun r65 => hv r65 (0) <| some (0, r65.2.2, r60.1))) else (Option.bind (fm_X21_make 29 ((gI σ 23 15)) σ) fun r70 => hl (pI r70.2 23 15 ((((gI r70.2 23 15)) + 1))) fun σ74 => Option.bind (fm_X21_constant n k0 σ74) fun r75 => hv r75 (0) <| hk (inb r70.1 (gL r75.2.2 23 21)) <| hl (pC r75.2.2 23 21 r70.1 r75.2.1) fun σ81 => Option.bind (fm_X21_take 82 σ81) fun r82 => hv r82 (0) <| some (0, r82.2.2, r70.1))) fun r34 => hw r34 (0) <| hk (inb y1 (gL r34.2.1 23 22)) <| Option.bind (fm_X21_hang ((gC r34.2.1 23 22 y1)) y2 r34.2.2 r34.2.1) fun r88 => hk (inb y1 (gL r88.2 23 22)) <| hl (pC r88.2 23 22 y1 r88.1) fun σ93 => lp_X21_switching_33 n k0 rec m y1 r34.2.2 σ93) else (some (0, σ, 0))
/-- HomeCompilerModel.switching()I -/
def bd_X21_switching (n : Nat) (k0 : Nat) (rec : Nat → List Int32 → hc_St → Option (Nat × Int32 × hc_St))  (σ : hc_St) : Option (Nat × Int32 × hc_St) := Option.bind (fm_X21_make 28 ((gI σ 23 15)) σ) fun r1 => Option.bind (fm_X21_opens  r1.2) fun r5 => ht r5 <| Option.bind (fm_X21_inParentheses n k0 r5.2.2) fun r10 => ht r10 <| hk (inb r1.1 (gL r10.2.2 23 21)) <| hl (pC r10.2.2 23 21 r1.1 r10.2.1) fun σ16 => Option.bind (fm_X21_opensMark 76 σ16) fun r17 => ht r17 <| Option.bind (lp_X21_switching_33 n k0 rec n r1.1 ((-1)) r17.2.2) fun r94 => hu r94 <| Option.bind (fm_X21_closes 77 r94.2.1) fun r99 => ht r99 <| hl (pI r99.2.2 23 16 ((((gI r99.2.2 23 16)) - 1))) fun σ104 => some (0, r1.1, σ104)
set_option maxRecDepth 20000 in
set_option maxHeartbeats 4000000 in
theorem ll_X21_switching_33 {l : Launch} {E : hc_E} {A : Nat → Prop} {am : Nat → Nat → Nat} {d : Nat} {kk : Nat} {X : hc_X} (n : Nat) (k0 : Nat) (rec : Nat → List Int32 → hc_St → Option (Nat × Int32 × hc_St)) (hD : kk + 1 * k0 + 22 ≤ d) (hem : X.2.2.2.2.2.2.2.2.2.1.exceptionTable.isEmpty = true) (IH : ∀ (w : Nat) (a : List Int32) (σ : hc_St) (r : (Nat × Int32 × hc_St)), rec w a σ = some r → ∀ am, okg_X21_block l E A (d - 1) am w a σ r) {oc : hc_Oc} {σe : hc_St} (hC : hc_C hc_V0 E cX21_switching 4 RX21 (some .int) d oc σe (l, A, am, []) X) : ∀ (m : Nat) (σ : hc_St) (y1 : Int32) (y2 : Int32) (rl : Nat × hc_St × Int32) (am1 : Nat → Nat → Nat), lp_X21_switching_33 n k0 rec m y1 y2 σ = some rl → (rl.1 = 0 → hc_At hc_V0 E 4 X 173 [(0, .ref (E.2.1 23)), (1, .int y1)] [] rl.2.1 am1 []) → (rl.1 ≠ 0 → hc_C hc_V0 E cX21_switching 4 RX21 (some .int) d (.inr rl.1) rl.2.1 (l, A, am, []) X) → hc_At hc_V0 E 4 X 33 [(0, .ref (E.2.1 23)), (1, .int y1), (2, .int y2)] [] σ am1 [] := by
  have hd1 : 1 ≤ d := by omega
  have hd8 : 9 ≤ d := by omega
  have hd12 : 12 ≤ d := by omega
  intro m
  induction m with
  | zero =>
    intro σ y1 y2 rl am1 h
    cases h
  | succ m ih =>
    intro σ y1 y2 rl am1 h JX HX
    rw [lp_X21_switching_33] at h
    refine hr_aload_n hC dX21_switching_33 rfl ?_
    refine hr_ldcs (v := 77) 77 hC dX21_switching_34 (List.mem_of_getElem? (i := 77) rfl) (by decide) rfl ?_
    obtain ⟨r22, e23, h⟩ := hx_bind h
    refine hs_callV0 hC 23 [_] _ dX21_switching_36 q3202 q3204 qs190 q335 q3205 np_X21 rfl OB_23 pd_X21_is (Nat.le_of_ble_eq_true rfl) hd1 (okX21_is l E A (d - 1)  (by omega)  e23 am1) rfl ?_
    refine hr_if_ne (x := _) hC 173 dX21_switching_39 (by decide) (fun c27 => ?_) (fun c27 => ?_)
    · rw [if_neg c27] at h
      obtain rfl := Option.some.inj h
      exact hr_sub _ rfl (JX rfl)
    · rw [if_pos c27] at h
      refine hr_iconst (v := (-1)) hC dX21_switching_42 rfl ?_
      refine hr_istore_n hC dX21_switching_43 (by decide) ?_
      refine hr_aload_n hC dX21_switching_44 rfl ?_
      refine hr_bipush (v := 10) hC dX21_switching_45 rfl ?_
      obtain ⟨r28, e29, h⟩ := hx_bind h
      refine hs_callV0 hC 23 [_] _ dX21_switching_47 q3186 q3188 qs186 q335 q3189 np_X21 rfl OB_23 pd_X21_isKey (Nat.le_of_ble_eq_true rfl) hd1 (okX21_isKey l E A (d - 1)  (by omega)  e29 am1) rfl ?_
      obtain ⟨r34, e35, h⟩ := hx_bind h
      have J36 : r34.1 = 0 → hc_At hc_V0 E 4 X 150 [(0, .ref (E.2.1 23)), (1, .int y1), (2, .int y2), (3, .int r34.2.2)] [] r34.2.1 am1 [] := by
        intro z37
        rw [hw_0 z37] at h
        refine hr_aload_n hC dX21_switching_150 rfl ?_
        refine hr_gA hC F23_22 rfl dX21_switching_151 q2864 ?_
        refine hr_iload_n hC dX21_switching_154 rfl ?_
        refine hr_aload_n hC dX21_switching_155 rfl ?_
        refine hr_aload_n hC dX21_switching_156 rfl ?_
        refine hr_gA hC F23_22 rfl dX21_switching_157 q2864 ?_
        refine hr_iload_n hC dX21_switching_160 rfl ?_
        obtain ⟨c87, h⟩ := hk_ok h
        refine hs_iald hC A23_22 c87 dX21_switching_161 ?_
        refine hr_iload_n hC dX21_switching_162 rfl ?_
        refine hr_iload_n hC dX21_switching_163 rfl ?_
        obtain ⟨r88, e89, h⟩ := hx_bind h
        refine hs_callV0 hC 23 [_, _, _] _ dX21_switching_164 q3302 q3304 qs212 q335 q3305 np_X21 rfl OB_23 pd_X21_hang (Nat.le_of_ble_eq_true rfl) hd1 (okX21_hang l E A (d - 1)  (by omega)  e89 am1) rfl ?_
        obtain ⟨c92, h⟩ := hk_ok h
        obtain ⟨σ93, hσ93, h⟩ := hl_ok h
        refine hs_iast hC A23_22 c92 dX21_switching_167 ?_
        rw [← hσ93]
        refine hr_iload_n hC dX21_switching_168 rfl ?_
        refine hr_istore_n hC dX21_switching_169 (by decide) ?_
        refine hr_goto hC 33 dX21_switching_170 (by decide) ?_
        exact hr_sub _ rfl (ih _ _ _ _ am1 h JX HX)
      have HX : r34.1 ≠ 0 → hc_C hc_V0 E cX21_switching 4 RX21 (some .int) d (.inr r34.1) r34.2.1 (l, A, am, []) X := by
        intro z37
        rw [hw_1 z37] at h
        obtain rfl := Option.some.inj h
        exact HX z37
      clear h
      have h := e35
      refine hr_if_eq (x := _) hC 93 dX21_switching_50 (by decide) (fun c33 => ?_) (fun c33 => ?_)
      · rw [if_pos c33] at h
        refine hr_aload_n hC dX21_switching_93 rfl ?_
        refine hr_bipush (v := 11) hC dX21_switching_94 rfl ?_
        obtain ⟨r38, e39, h⟩ := hx_bind h
        refine hs_callV0 hC 23 [_] _ dX21_switching_96 q3186 q3188 qs186 q335 q3189 np_X21 rfl OB_23 pd_X21_isKey (Nat.le_of_ble_eq_true rfl) hd1 (okX21_isKey l E A (d - 1)  (by omega)  e39 am1) rfl ?_
        refine hr_if_eq (x := _) hC 132 dX21_switching_99 (by decide) (fun c43 => ?_) (fun c43 => ?_)
        · rw [if_pos c43] at h
          refine hr_aload_n hC dX21_switching_132 rfl ?_
          refine hr_iload_n hC dX21_switching_133 rfl ?_
          obtain ⟨v46, hv46, h⟩ := hl_ok h
          have J57 : ∀ w58 : Int32, (if y2 < 0 then 0 else 1) = w58 → hc_At hc_V0 E 4 X 142 [(0, .ref (E.2.1 23)), (1, .int y1), (2, .int y2)] [.int w58, .ref (E.2.1 23)] σ am1 [] := by
            intro w58 hw58
            obtain rfl := hv46.trans hw58
            obtain ⟨r47, e48, h⟩ := hx_bind h
            by_cases z51 : r47.1 = 0
            · rw [hv_0 z51] at h
              refine hs_callV0 hC 23 [_] _ dX21_switching_142 q3218 q3220 qs192 q335 q3221 np_X21 rfl OB_23 pd_X21_need (Nat.le_of_ble_eq_true rfl) hd1 (hc_M0 (r := r47) (okX21_need l E A (d - 1)  (by omega)  e48 am1) z51) rfl ?_
              refine hr_aload_n hC dX21_switching_145 rfl ?_
              obtain ⟨r52, e53, h⟩ := hx_bind h
              by_cases z56 : r52.1 = 0
              · rw [hv_0 z56] at h
                refine hs_callV0 hC 23 [] _ dX21_switching_146 q3326 q3328 qs218 q335 q3329 np_X21 rfl OB_23 pd_X21_statement (Nat.le_of_ble_eq_true rfl) hd1 (hc_M0 (r := r52) (IH _ _ _ _ e53 am1) z56) rfl ?_
                refine hr_istore_n hC dX21_switching_149 (by decide) ?_
                obtain rfl := Option.some.inj h
                exact hr_sub _ rfl (J36 rfl)
              · rw [hv_1 z56] at h
                obtain rfl := Option.some.inj h
                exact hs_callVx (HX z56) hem 23 [] _ dX21_switching_146 q3326 q3328 qs218 q335 q3329 np_X21 rfl OB_23 pd_X21_statement (Nat.le_of_ble_eq_true rfl) hd1 (hc_M1 (r := r52) (IH _ _ _ _ e53 am1) z56) (hc_rb rfl) rfl
            · rw [hv_1 z51] at h
              obtain rfl := Option.some.inj h
              exact hs_callVx (HX z51) hem 23 [_] _ dX21_switching_142 q3218 q3220 qs192 q335 q3221 np_X21 rfl OB_23 pd_X21_need (Nat.le_of_ble_eq_true rfl) hd1 (hc_M1 (r := r47) (okX21_need l E A (d - 1)  (by omega)  e48 am1) z51) (hc_rb rfl) rfl
          refine hr_if_lt (x := _) hC 141 dX21_switching_134 (by decide) (fun c59 => ?_) (fun c59 => ?_)
          · refine hr_iconst (v := 0) hC dX21_switching_141 rfl ?_
            exact hr_sub _ rfl (J57 _ (by first | (rw [if_pos c59]; done) | (simp only [if_pos c59]; done) | rfl))
          · refine hr_iconst (v := 1) hC dX21_switching_137 rfl ?_
            refine hr_goto hC 142 dX21_switching_138 (by decide) ?_
            exact hr_sub _ rfl (J57 _ (by first | (rw [if_neg c59]; done) | (simp only [if_neg c59]; done) | rfl))
        · rw [if_neg c43] at h
          refine hr_aload_n hC dX21_switching_102 rfl ?_
          refine hr_bipush (v := 30) hC dX21_switching_103 rfl ?_
          refine hr_aload_n hC dX21_switching_105 rfl ?_
          refine hr_gI hC F23_15 dX21_switching_106 q2857 ?_
          obtain ⟨r60, e61, h⟩ := hx_bind h
          refine hs_callV0 hC 23 [_, _] _ dX21_switching_109 q3194 q3196 qs188 q335 q3197 np_X21 rfl OB_23 pd_X21_make (Nat.le_of_ble_eq_true rfl) hd1 (okX21_make l E A (d - 1)  (by omega)  e61 am1) rfl ?_
          refine hr_istore_n hC dX21_switching_112 (by decide) ?_
          refine hr_aload_n hC dX21_switching_113 rfl ?_
          refine hr_dup hC dX21_switching_114 rfl ?_
          refine hr_gI hC F23_15 dX21_switching_115 q2857 ?_
          refine hr_iconst (v := 1) hC dX21_switching_118 rfl ?_
          refine hr_iadd hC dX21_switching_119 ?_
          obtain ⟨σ64, hσ64, h⟩ := hl_ok h
          refine hr_pI hC F23_15 PX21_15 dX21_switching_120 q2857 ?_
          rw [← hσ64]
          refine hr_aload_n hC dX21_switching_123 rfl ?_
          refine hr_ldcs (v := 82) 82 hC dX21_switching_124 (List.mem_of_getElem? (i := 82) rfl) (by decide) rfl ?_
          obtain ⟨r65, e66, h⟩ := hx_bind h
          by_cases z69 : r65.1 = 0
          · rw [hv_0 z69] at h
            refine hs_callV0 hC 23 [_] _ dX21_switching_126 q3282 q3284 qs207 q335 q3285 np_X21 rfl OB_23 pd_X21_take (Nat.le_of_ble_eq_true rfl) hd1 (hc_M0 (r := r65) (okX21_take l E A (d - 1)  (by omega)  e66 am1) z69) rfl ?_
            refine hr_goto hC 150 dX21_switching_129 (by decide) ?_
            obtain rfl := Option.some.inj h
            exact hr_sub _ rfl (J36 rfl)
          · rw [hv_1 z69] at h
            obtain rfl := Option.some.inj h
            exact hs_callVx (HX z69) hem 23 [_] _ dX21_switching_126 q3282 q3284 qs207 q335 q3285 np_X21 rfl OB_23 pd_X21_take (Nat.le_of_ble_eq_true rfl) hd1 (hc_M1 (r := r65) (okX21_take l E A (d - 1)  (by omega)  e66 am1) z69) (hc_rb rfl) rfl
      · rw [if_neg c33] at h
        refine hr_aload_n hC dX21_switching_53 rfl ?_
        refine hr_bipush (v := 29) hC dX21_switching_54 rfl ?_
        refine hr_aload_n hC dX21_switching_56 rfl ?_
        refine hr_gI hC F23_15 dX21_switching_57 q2857 ?_
        obtain ⟨r70, e71, h⟩ := hx_bind h
        refine hs_callV0 hC 23 [_, _] _ dX21_switching_60 q3194 q3196 qs188 q335 q3197 np_X21 rfl OB_23 pd_X21_make (Nat.le_of_ble_eq_true rfl) hd1 (okX21_make l E A (d - 1)  (by omega)  e71 am1) rfl ?_
        refine hr_istore_n hC dX21_switching_63 (by decide) ?_
        refine hr_aload_n hC dX21_switching_64 rfl ?_
        refine hr_dup hC dX21_switching_65 rfl ?_
        refine hr_gI hC F23_15 dX21_switching_66 q2857 ?_
        refine hr_iconst (v := 1) hC dX21_switching_69 rfl ?_
        refine hr_iadd hC dX21_switching_70 ?_
        obtain ⟨σ74, hσ74, h⟩ := hl_ok h
        refine hr_pI hC F23_15 PX21_15 dX21_switching_71 q2857 ?_
        rw [← hσ74]
        refine hr_aload_n hC dX21_switching_74 rfl ?_
        refine hr_gA hC F23_21 rfl dX21_switching_75 q2863 ?_
        refine hr_iload_n hC dX21_switching_78 rfl ?_
        refine hr_aload_n hC dX21_switching_79 rfl ?_
        obtain ⟨r75, e76, h⟩ := hx_bind h
        by_cases z79 : r75.1 = 0
        · rw [hv_0 z79] at h
          refine hs_callV0 hC 23 [] _ dX21_switching_80 q3235 q3237 qs196 q335 q3238 np_X21 rfl OB_23 pd_X21_constant (Nat.le_of_ble_eq_true rfl) hd1 (hc_M0 (r := r75) (okX21_constant l E A (d - 1) n k0 (by omega)  e76 am1) z79) rfl ?_
          obtain ⟨c80, h⟩ := hk_ok h
          obtain ⟨σ81, hσ81, h⟩ := hl_ok h
          refine hs_iast hC A23_21 c80 dX21_switching_83 ?_
          rw [← hσ81]
          refine hr_aload_n hC dX21_switching_84 rfl ?_
          refine hr_ldcs (v := 82) 82 hC dX21_switching_85 (List.mem_of_getElem? (i := 82) rfl) (by decide) rfl ?_
          obtain ⟨r82, e83, h⟩ := hx_bind h
          by_cases z86 : r82.1 = 0
          · rw [hv_0 z86] at h
            refine hs_callV0 hC 23 [_] _ dX21_switching_87 q3282 q3284 qs207 q335 q3285 np_X21 rfl OB_23 pd_X21_take (Nat.le_of_ble_eq_true rfl) hd1 (hc_M0 (r := r82) (okX21_take l E A (d - 1)  (by omega)  e83 am1) z86) rfl ?_
            refine hr_goto hC 150 dX21_switching_90 (by decide) ?_
            obtain rfl := Option.some.inj h
            exact hr_sub _ rfl (J36 rfl)
          · rw [hv_1 z86] at h
            obtain rfl := Option.some.inj h
            exact hs_callVx (HX z86) hem 23 [_] _ dX21_switching_87 q3282 q3284 qs207 q335 q3285 np_X21 rfl OB_23 pd_X21_take (Nat.le_of_ble_eq_true rfl) hd1 (hc_M1 (r := r82) (okX21_take l E A (d - 1)  (by omega)  e83 am1) z86) (hc_rb rfl) rfl
        · rw [hv_1 z79] at h
          obtain rfl := Option.some.inj h
          exact hs_callVx (HX z79) hem 23 [] _ dX21_switching_80 q3235 q3237 qs196 q335 q3238 np_X21 rfl OB_23 pd_X21_constant (Nat.le_of_ble_eq_true rfl) hd1 (hc_M1 (r := r75) (okX21_constant l E A (d - 1) n k0 (by omega)  e76 am1) z79) (hc_rb rfl) rfl
set_option maxRecDepth 20000 in
set_option maxHeartbeats 4000000 in
theorem okbX21_switching (l : Launch) (E : hc_E) (A : Nat → Prop) (d : Nat) {kk : Nat} (n : Nat) (k0 : Nat) (rec : Nat → List Int32 → hc_St → Option (Nat × Int32 × hc_St)) (hD : kk + 1 * k0 + 22 ≤ d) (IH : ∀ (w : Nat) (a : List Int32) (σ : hc_St) (r : (Nat × Int32 × hc_St)), rec w a σ = some r → ∀ am, okg_X21_block l E A (d - 1) am w a σ r)  {σ : hc_St} {r : (Nat × Int32 × hc_St)} (h : bd_X21_switching n k0 rec  σ = some r) (am : Nat → Nat → Nat) : hc_M l hc_V0 yX21_switching (ws_ yX21_switching cX21_switching 4 (some .int)) d E A [.ref (E.2.1 23)] am [] σ (hc_ot (fun v => some (.int v)) r) r.2.2 := by
  have hd1 : 1 ≤ d := by omega
  have hd8 : 9 ≤ d := by omega
  have hd12 : 12 ≤ d := by omega
  refine hc_enter2 (own := RX21) [(0, .ref (E.2.1 23))] pl_X21 rfl hc_V0_st hc_G0_nd rfl (Nat.le_of_ble_eq_true rfl) (fun X hC hem => ?_)
  have HX := fun z => hc_CX hC z
  unfold bd_X21_switching at h
  refine hr_aload_n hC dX21_switching_0 rfl ?_
  refine hr_bipush (v := 28) hC dX21_switching_1 rfl ?_
  refine hr_aload_n hC dX21_switching_3 rfl ?_
  refine hr_gI hC F23_15 dX21_switching_4 q2857 ?_
  obtain ⟨r1, e2, h⟩ := hx_bind h
  refine hs_callV0 hC 23 [_, _] _ dX21_switching_7 q3194 q3196 qs188 q335 q3197 np_X21 rfl OB_23 pd_X21_make (Nat.le_of_ble_eq_true rfl) hd1 (okX21_make l E A (d - 1)  (by omega)  e2 am) rfl ?_
  refine hr_istore_n hC dX21_switching_10 (by decide) ?_
  refine hr_aload_n hC dX21_switching_11 rfl ?_
  obtain ⟨r5, e6, h⟩ := hx_bind h
  by_cases z9 : r5.1 = 0
  · rw [ht_0 z9] at h
    refine hs_callV0 hC 23 [] _ dX21_switching_12 q3223 q3225 qs193 q335 q3226 np_X21 rfl OB_23 pd_X21_opens (Nat.le_of_ble_eq_true rfl) hd1 (hc_M0 (r := r5) (okX21_opens l E A (d - 1)  (by omega)  e6 am) z9) rfl ?_
    refine hr_aload_n hC dX21_switching_15 rfl ?_
    refine hr_gA hC F23_21 rfl dX21_switching_16 q2863 ?_
    refine hr_iload_n hC dX21_switching_19 rfl ?_
    refine hr_aload_n hC dX21_switching_20 rfl ?_
    obtain ⟨r10, e11, h⟩ := hx_bind h
    by_cases z14 : r10.1 = 0
    · rw [ht_0 z14] at h
      refine hs_callV0 hC 23 [] _ dX21_switching_21 q3354 q3356 qs225 q335 q3357 np_X21 rfl OB_23 pd_X21_inParentheses (Nat.le_of_ble_eq_true rfl) hd1 (hc_M0 (r := r10) (okX21_inParentheses l E A (d - 1) n k0 (by omega)  e11 am) z14) rfl ?_
      obtain ⟨c15, h⟩ := hk_ok h
      obtain ⟨σ16, hσ16, h⟩ := hl_ok h
      refine hs_iast hC A23_21 c15 dX21_switching_24 ?_
      rw [← hσ16]
      refine hr_aload_n hC dX21_switching_25 rfl ?_
      refine hr_ldcs (v := 76) 76 hC dX21_switching_26 (List.mem_of_getElem? (i := 76) rfl) (by decide) rfl ?_
      obtain ⟨r17, e18, h⟩ := hx_bind h
      by_cases z21 : r17.1 = 0
      · rw [ht_0 z21] at h
        refine hs_callV0 hC 23 [_] _ dX21_switching_28 q3198 q3200 qs189 q335 q3201 np_X21 rfl OB_23 pd_X21_opensMark (Nat.le_of_ble_eq_true rfl) hd1 (hc_M0 (r := r17) (okX21_opensMark l E A (d - 1)  (by omega)  e18 am) z21) rfl ?_
        refine hr_iconst (v := (-1)) hC dX21_switching_31 rfl ?_
        refine hr_istore_n hC dX21_switching_32 (by decide) ?_
        obtain ⟨r94, e95, h⟩ := hx_bind h
        refine hr_sub _ rfl (ll_X21_switching_33 n k0 rec hD hem IH hC n _ _ _ _ am e95 (fun z97 => ?_) (fun z97 => ?_))
        · rw [hu_0 z97] at h
          refine hr_aload_n hC dX21_switching_173 rfl ?_
          refine hr_ldcs (v := 77) 77 hC dX21_switching_174 (List.mem_of_getElem? (i := 77) rfl) (by decide) rfl ?_
          obtain ⟨r99, e100, h⟩ := hx_bind h
          by_cases z103 : r99.1 = 0
          · rw [ht_0 z103] at h
            refine hs_callV0 hC 23 [_] _ dX21_switching_176 q3278 q3280 qs206 q335 q3281 np_X21 rfl OB_23 pd_X21_closes (Nat.le_of_ble_eq_true rfl) hd1 (hc_M0 (r := r99) (okX21_closes l E A (d - 1)  (by omega)  e100 am) z103) rfl ?_
            refine hr_aload_n hC dX21_switching_179 rfl ?_
            refine hr_dup hC dX21_switching_180 rfl ?_
            refine hr_gI hC F23_16 dX21_switching_181 q2858 ?_
            refine hr_iconst (v := 1) hC dX21_switching_184 rfl ?_
            refine hr_isub hC dX21_switching_185 ?_
            obtain ⟨σ104, hσ104, h⟩ := hl_ok h
            refine hr_pI hC F23_16 PX21_16 dX21_switching_186 q2858 ?_
            rw [← hσ104]
            refine hr_iload_n hC dX21_switching_189 rfl ?_
            obtain rfl := Option.some.inj h
            exact hr_iret hC dX21_switching_190
          · rw [ht_1 z103] at h
            obtain rfl := Option.some.inj h
            exact hs_callVx (HX z103) hem 23 [_] _ dX21_switching_176 q3278 q3280 qs206 q335 q3281 np_X21 rfl OB_23 pd_X21_closes (Nat.le_of_ble_eq_true rfl) hd1 (hc_M1 (r := r99) (okX21_closes l E A (d - 1)  (by omega)  e100 am) z103) (hc_rb rfl) rfl
        · rw [hu_1 z97] at h
          obtain rfl := Option.some.inj h
          exact HX z97
      · rw [ht_1 z21] at h
        obtain rfl := Option.some.inj h
        exact hs_callVx (HX z21) hem 23 [_] _ dX21_switching_28 q3198 q3200 qs189 q335 q3201 np_X21 rfl OB_23 pd_X21_opensMark (Nat.le_of_ble_eq_true rfl) hd1 (hc_M1 (r := r17) (okX21_opensMark l E A (d - 1)  (by omega)  e18 am) z21) (hc_rb rfl) rfl
    · rw [ht_1 z14] at h
      obtain rfl := Option.some.inj h
      exact hs_callVx (HX z14) hem 23 [] _ dX21_switching_21 q3354 q3356 qs225 q335 q3357 np_X21 rfl OB_23 pd_X21_inParentheses (Nat.le_of_ble_eq_true rfl) hd1 (hc_M1 (r := r10) (okX21_inParentheses l E A (d - 1) n k0 (by omega)  e11 am) z14) (hc_rb rfl) rfl
  · rw [ht_1 z9] at h
    obtain rfl := Option.some.inj h
    exact hs_callVx (HX z9) hem 23 [] _ dX21_switching_12 q3223 q3225 qs193 q335 q3226 np_X21 rfl OB_23 pd_X21_opens (Nat.le_of_ble_eq_true rfl) hd1 (hc_M1 (r := r5) (okX21_opens l E A (d - 1)  (by omega)  e6 am) z9) (hc_rb rfl) rfl
def rc_X21_block (n : Nat) (k0 : Nat) : Nat → Nat → List Int32 → hc_St → Option (Nat × Int32 × hc_St)
  | 0, _, _, _ => none
  | k + 1, w, a, σ => match w with
    | 0 => bd_X21_block n k0 (rc_X21_block n k0 k)  σ
    | 1 => bd_X21_statement n k0 (rc_X21_block n k0 k)  σ
    | 2 => bd_X21_byKey n k0 (rc_X21_block n k0 k) (a.getD 0 0) σ
    | 3 => bd_X21_conditioned n k0 (rc_X21_block n k0 k) (a.getD 0 0) σ
    | 4 => bd_X21_doing n k0 (rc_X21_block n k0 k)  σ
    | 5 => bd_X21_forLoop n k0 (rc_X21_block n k0 k)  σ
    | 6 => bd_X21_switching n k0 (rc_X21_block n k0 k)  σ
    | _ => none
theorem okr_X21_block (l : Launch) (E : hc_E) (A : Nat → Prop) (n : Nat) (k0 : Nat) : ∀ (k d : Nat), k + 1 * k0 + 22 ≤ d → ∀ (w : Nat) (a : List Int32) (σ : hc_St) (r : (Nat × Int32 × hc_St)), rc_X21_block n k0 k w a σ = some r → ∀ am, okg_X21_block l E A d am w a σ r
  | 0, d, _, w, a, σ, r, h, am => by cases h
  | k + 1, d, hd, w, a, σ, r, h, am => by
    have IH := okr_X21_block l E A n k0 k (d - 1) (by omega)
    match w, h with
    | 0, h => exact okbX21_block l E A d (kk := k) n k0 (rc_X21_block n k0 k) (by omega) IH h am
    | 1, h => exact okbX21_statement l E A d (kk := k) n k0 (rc_X21_block n k0 k) (by omega) IH h am
    | 2, h => exact okbX21_byKey l E A d (kk := k) n k0 (rc_X21_block n k0 k) (by omega) IH h am
    | 3, h => exact okbX21_conditioned l E A d (kk := k) n k0 (rc_X21_block n k0 k) (by omega) IH h am
    | 4, h => exact okbX21_doing l E A d (kk := k) n k0 (rc_X21_block n k0 k) (by omega) IH h am
    | 5, h => exact okbX21_forLoop l E A d (kk := k) n k0 (rc_X21_block n k0 k) (by omega) IH h am
    | 6, h => exact okbX21_switching l E A d (kk := k) n k0 (rc_X21_block n k0 k) (by omega) IH h am
    | w + 7, h => trivial
def fm_X21_block (n : Nat) (k0 : Nat)  (σ : hc_St) : Option (Nat × Int32 × hc_St) := rc_X21_block n k0 k0 0 [] σ
theorem okX21_block (l : Launch) (E : hc_E) (A : Nat → Prop) (d : Nat) (n : Nat) (k0 : Nat) (hD : k0 + 1 * k0 + 22 ≤ d)   {σ : hc_St} {r : (Nat × Int32 × hc_St)} (h : fm_X21_block n k0  σ = some r) (am : Nat → Nat → Nat) : hc_M l hc_V0 yX21_block (ws_ yX21_block cX21_block 4 (some .int)) d E A [.ref (E.2.1 23)] am [] σ (hc_ot (fun v => some (.int v)) r) r.2.2 := okr_X21_block l E A n k0 k0 d hD 0 _ _ _ h am
def fm_X21_statement (n : Nat) (k0 : Nat)  (σ : hc_St) : Option (Nat × Int32 × hc_St) := rc_X21_block n k0 k0 1 [] σ
theorem okX21_statement (l : Launch) (E : hc_E) (A : Nat → Prop) (d : Nat) (n : Nat) (k0 : Nat) (hD : k0 + 1 * k0 + 22 ≤ d)   {σ : hc_St} {r : (Nat × Int32 × hc_St)} (h : fm_X21_statement n k0  σ = some r) (am : Nat → Nat → Nat) : hc_M l hc_V0 yX21_statement (ws_ yX21_statement cX21_statement 2 (some .int)) d E A [.ref (E.2.1 23)] am [] σ (hc_ot (fun v => some (.int v)) r) r.2.2 := okr_X21_block l E A n k0 k0 d hD 1 _ _ _ h am
def fm_X21_byKey (n : Nat) (k0 : Nat) (x1 : Int32) (σ : hc_St) : Option (Nat × Int32 × hc_St) := rc_X21_block n k0 k0 2 [x1] σ
theorem okX21_byKey (l : Launch) (E : hc_E) (A : Nat → Prop) (d : Nat) (n : Nat) (k0 : Nat) (hD : k0 + 1 * k0 + 22 ≤ d)  {x1 : Int32} {σ : hc_St} {r : (Nat × Int32 × hc_St)} (h : fm_X21_byKey n k0 x1 σ = some r) (am : Nat → Nat → Nat) : hc_M l hc_V0 yX21_byKey (ws_ yX21_byKey cX21_byKey 3 (some .int)) d E A [.ref (E.2.1 23), .int x1] am [] σ (hc_ot (fun v => some (.int v)) r) r.2.2 := okr_X21_block l E A n k0 k0 d hD 2 _ _ _ h am
def fm_X21_conditioned (n : Nat) (k0 : Nat) (x1 : Int32) (σ : hc_St) : Option (Nat × Int32 × hc_St) := rc_X21_block n k0 k0 3 [x1] σ
theorem okX21_conditioned (l : Launch) (E : hc_E) (A : Nat → Prop) (d : Nat) (n : Nat) (k0 : Nat) (hD : k0 + 1 * k0 + 22 ≤ d)  {x1 : Int32} {σ : hc_St} {r : (Nat × Int32 × hc_St)} (h : fm_X21_conditioned n k0 x1 σ = some r) (am : Nat → Nat → Nat) : hc_M l hc_V0 yX21_conditioned (ws_ yX21_conditioned cX21_conditioned 3 (some .int)) d E A [.ref (E.2.1 23), .int x1] am [] σ (hc_ot (fun v => some (.int v)) r) r.2.2 := okr_X21_block l E A n k0 k0 d hD 3 _ _ _ h am
def fm_X21_doing (n : Nat) (k0 : Nat)  (σ : hc_St) : Option (Nat × Int32 × hc_St) := rc_X21_block n k0 k0 4 [] σ
theorem okX21_doing (l : Launch) (E : hc_E) (A : Nat → Prop) (d : Nat) (n : Nat) (k0 : Nat) (hD : k0 + 1 * k0 + 22 ≤ d)   {σ : hc_St} {r : (Nat × Int32 × hc_St)} (h : fm_X21_doing n k0  σ = some r) (am : Nat → Nat → Nat) : hc_M l hc_V0 yX21_doing (ws_ yX21_doing cX21_doing 2 (some .int)) d E A [.ref (E.2.1 23)] am [] σ (hc_ot (fun v => some (.int v)) r) r.2.2 := okr_X21_block l E A n k0 k0 d hD 4 _ _ _ h am
def fm_X21_forLoop (n : Nat) (k0 : Nat)  (σ : hc_St) : Option (Nat × Int32 × hc_St) := rc_X21_block n k0 k0 5 [] σ
theorem okX21_forLoop (l : Launch) (E : hc_E) (A : Nat → Prop) (d : Nat) (n : Nat) (k0 : Nat) (hD : k0 + 1 * k0 + 22 ≤ d)   {σ : hc_St} {r : (Nat × Int32 × hc_St)} (h : fm_X21_forLoop n k0  σ = some r) (am : Nat → Nat → Nat) : hc_M l hc_V0 yX21_forLoop (ws_ yX21_forLoop cX21_forLoop 3 (some .int)) d E A [.ref (E.2.1 23)] am [] σ (hc_ot (fun v => some (.int v)) r) r.2.2 := okr_X21_block l E A n k0 k0 d hD 5 _ _ _ h am
def fm_X21_switching (n : Nat) (k0 : Nat)  (σ : hc_St) : Option (Nat × Int32 × hc_St) := rc_X21_block n k0 k0 6 [] σ
theorem okX21_switching (l : Launch) (E : hc_E) (A : Nat → Prop) (d : Nat) (n : Nat) (k0 : Nat) (hD : k0 + 1 * k0 + 22 ≤ d)   {σ : hc_St} {r : (Nat × Int32 × hc_St)} (h : fm_X21_switching n k0  σ = some r) (am : Nat → Nat → Nat) : hc_M l hc_V0 yX21_switching (ws_ yX21_switching cX21_switching 4 (some .int)) d E A [.ref (E.2.1 23)] am [] σ (hc_ot (fun v => some (.int v)) r) r.2.2 := okr_X21_block l E A n k0 k0 d hD 6 _ _ _ h am
def lp_X21_functionText_65 (n : Nat) (k0 : Nat) : Nat → Int32 → Int32 → hc_St → Option (Nat × hc_St × Int32)
  | 0, _, _, _ => none
  | m + 1, y3, y4, σ => Option.bind (fm_X21_takes 80 σ) fun r35 => if r35.1 = 0 then (some (0, r35.2, 0)) else (Option.bind (fm_X21_parameter  r35.2) fun r41 => hv r41 (0) <| hk (inb y4 (gL r41.2.2 23 25)) <| hl (pC r41.2.2 23 25 y4 r41.2.1) fun σ47 => lp_X21_functionText_65 n k0 m y3 r41.2.1 σ47)
/-- HomeCompilerModel.functionText(II)V -/
def fm_X21_functionText (n : Nat) (k0 : Nat) (x1 : Int32) (x2 : Int32) (σ : hc_St) : Option (Nat × Int32 × hc_St) := Option.bind (fm_X21_make 41 x2 σ) fun r1 => hk (inb r1.1 (gL r1.2 23 26)) <| hl (pC r1.2 23 26 r1.1 x1) fun σ6 => Option.bind (fm_X21_opensMark 74 σ6) fun r7 => ht r7 <| Option.bind (fm_X21_isKey 2 r7.2.2) fun r12 => Option.bind (α := Nat × hc_St × Int32) (if r12 = 0 then (Option.bind (fm_X21_is 75 r7.2.2) fun r22 => if r22 = 0 then (Option.bind (fm_X21_parameter  r7.2.2) fun r28 => hv r28 (0) <| hk (inb r1.1 (gL r28.2.2 23 21)) <| hl (pC r28.2.2 23 21 r1.1 r28.2.1) fun σ34 => Option.bind (lp_X21_functionText_65 n k0 n r1.1 r28.2.1 σ34) fun r48 => hw r48 (0) <| some (0, r48.2.1, (0 : Int32))) else (some (0, r7.2.2, (0 : Int32)))) else (hl (pI r7.2.2 23 15 ((((gI r7.2.2 23 15)) + 1))) fun σ53 => some (0, σ53, (0 : Int32)))) fun r18 => hu r18 <| Option.bind (fm_X21_closes 75 r18.2.1) fun r54 => ht r54 <| Option.bind (fm_X21_block n k0 r54.2.2) fun r59 => ht r59 <| hk (inb r1.1 (gL r59.2.2 23 22)) <| hl (pC r59.2.2 23 22 r1.1 r59.2.1) fun σ65 => Option.bind (fm_X21_add r1.1 σ65) fun r66 => some (0, 0, r66)
set_option maxRecDepth 20000 in
set_option maxHeartbeats 4000000 in
theorem ll_X21_functionText_65 {l : Launch} {E : hc_E} {A : Nat → Prop} {am : Nat → Nat → Nat} {d : Nat} {X : hc_X} (n : Nat) (k0 : Nat) (hD : 2 * k0 + 23 ≤ d) (hem : X.2.2.2.2.2.2.2.2.2.1.exceptionTable.isEmpty = true) {oc : hc_Oc} {σe : hc_St} (hC : hc_C hc_V0 E cX21_functionText 6 RX21 none d oc σe (l, A, am, []) X) : ∀ (m : Nat) (σ : hc_St) (y3 : Int32) (y4 : Int32) (rl : Nat × hc_St × Int32) (am1 : Nat → Nat → Nat), lp_X21_functionText_65 n k0 m y3 y4 σ = some rl → (rl.1 = 0 → hc_At hc_V0 E 6 X 96 [(0, .ref (E.2.1 23)), (3, .int y3)] [] rl.2.1 am1 []) → (rl.1 ≠ 0 → hc_C hc_V0 E cX21_functionText 6 RX21 none d (.inr rl.1) rl.2.1 (l, A, am, []) X) → hc_At hc_V0 E 6 X 65 [(0, .ref (E.2.1 23)), (3, .int y3), (4, .int y4)] [] σ am1 [] := by
  have hd1 : 1 ≤ d := by omega
  have hd8 : 9 ≤ d := by omega
  have hd12 : 12 ≤ d := by omega
  intro m
  induction m with
  | zero =>
    intro σ y3 y4 rl am1 h
    cases h
  | succ m ih =>
    intro σ y3 y4 rl am1 h JX HX
    rw [lp_X21_functionText_65] at h
    refine hr_aload_n hC dX21_functionText_65 rfl ?_
    refine hr_ldcs (v := 80) 80 hC dX21_functionText_66 (List.mem_of_getElem? (i := 80) rfl) (by decide) rfl ?_
    obtain ⟨r35, e36, h⟩ := hx_bind h
    refine hs_callV0 hC 23 [_] _ dX21_functionText_68 q3231 q3233 qs195 q335 q3234 np_X21 rfl OB_23 pd_X21_takes (Nat.le_of_ble_eq_true rfl) hd1 (okX21_takes l E A (d - 1)  (by omega)  e36 am1) rfl ?_
    refine hr_if_eq (x := _) hC 96 dX21_functionText_71 (by decide) (fun c40 => ?_) (fun c40 => ?_)
    · rw [if_pos c40] at h
      obtain rfl := Option.some.inj h
      exact hr_sub _ rfl (JX rfl)
    · rw [if_neg c40] at h
      refine hr_aload_n hC dX21_functionText_74 rfl ?_
      obtain ⟨r41, e42, h⟩ := hx_bind h
      by_cases z45 : r41.1 = 0
      · rw [hv_0 z45] at h
        refine hs_callV0 hC 23 [] _ dX21_functionText_75 q3318 q3320 qs216 q335 q3321 np_X21 rfl OB_23 pd_X21_parameter (Nat.le_of_ble_eq_true rfl) hd1 (hc_M0 (r := r41) (okX21_parameter l E A (d - 1)  (by omega)  e42 am1) z45) rfl ?_
        refine hr_istore hC dX21_functionText_78 (by decide) ?_
        refine hr_aload_n hC dX21_functionText_80 rfl ?_
        refine hr_gA hC F23_25 rfl dX21_functionText_81 q2867 ?_
        refine hr_iload hC dX21_functionText_84 rfl ?_
        refine hr_iload hC dX21_functionText_86 rfl ?_
        obtain ⟨c46, h⟩ := hk_ok h
        obtain ⟨σ47, hσ47, h⟩ := hl_ok h
        refine hs_iast hC A23_25 c46 dX21_functionText_88 ?_
        rw [← hσ47]
        refine hr_iload hC dX21_functionText_89 rfl ?_
        refine hr_istore hC dX21_functionText_91 (by decide) ?_
        refine hr_goto hC 65 dX21_functionText_93 (by decide) ?_
        exact hr_sub _ rfl (ih _ _ _ _ am1 h JX HX)
      · rw [hv_1 z45] at h
        obtain rfl := Option.some.inj h
        exact hs_callVx (HX z45) hem 23 [] _ dX21_functionText_75 q3318 q3320 qs216 q335 q3321 np_X21 rfl OB_23 pd_X21_parameter (Nat.le_of_ble_eq_true rfl) hd1 (hc_M1 (r := r41) (okX21_parameter l E A (d - 1)  (by omega)  e42 am1) z45) (hc_rb rfl) rfl
set_option maxRecDepth 20000 in
set_option maxHeartbeats 4000000 in
theorem okX21_functionText (l : Launch) (E : hc_E) (A : Nat → Prop) (d : Nat) (n : Nat) (k0 : Nat) (hD : 2 * k0 + 23 ≤ d) {x1 : Int32} {x2 : Int32} {σ : hc_St} {r : (Nat × Int32 × hc_St)} (h : fm_X21_functionText n k0 x1 x2 σ = some r) (am : Nat → Nat → Nat) : hc_M l hc_V0 yX21_functionText (ws_ yX21_functionText cX21_functionText 6 none) d E A [.ref (E.2.1 23), .int x1, .int x2] am [] σ (hc_ot (fun v => none) r) r.2.2 := by
  have hd1 : 1 ≤ d := by omega
  have hd8 : 9 ≤ d := by omega
  have hd12 : 12 ≤ d := by omega
  refine hc_enter2 (own := RX21) [(0, .ref (E.2.1 23)), (1, .int x1), (2, .int x2)] pl_X21 rfl hc_V0_st hc_G0_nd rfl (Nat.le_of_ble_eq_true rfl) (fun X hC hem => ?_)
  have HX := fun z => hc_CX hC z
  unfold fm_X21_functionText at h
  refine hr_aload_n hC dX21_functionText_0 rfl ?_
  refine hr_bipush (v := 41) hC dX21_functionText_1 rfl ?_
  refine hr_iload_n hC dX21_functionText_3 rfl ?_
  obtain ⟨r1, e2, h⟩ := hx_bind h
  refine hs_callV0 hC 23 [_, _] _ dX21_functionText_4 q3194 q3196 qs188 q335 q3197 np_X21 rfl OB_23 pd_X21_make (Nat.le_of_ble_eq_true rfl) hd1 (okX21_make l E A (d - 1)  (by omega)  e2 am) rfl ?_
  refine hr_istore_n hC dX21_functionText_7 (by decide) ?_
  refine hr_aload_n hC dX21_functionText_8 rfl ?_
  refine hr_gA hC F23_26 rfl dX21_functionText_9 q2868 ?_
  refine hr_iload_n hC dX21_functionText_12 rfl ?_
  refine hr_iload_n hC dX21_functionText_13 rfl ?_
  obtain ⟨c5, h⟩ := hk_ok h
  obtain ⟨σ6, hσ6, h⟩ := hl_ok h
  refine hs_iast hC A23_26 c5 dX21_functionText_14 ?_
  rw [← hσ6]
  refine hr_aload_n hC dX21_functionText_15 rfl ?_
  refine hr_ldcs (v := 74) 74 hC dX21_functionText_16 (List.mem_of_getElem? (i := 74) rfl) (by decide) rfl ?_
  obtain ⟨r7, e8, h⟩ := hx_bind h
  by_cases z11 : r7.1 = 0
  · rw [ht_0 z11] at h
    refine hs_callV0 hC 23 [_] _ dX21_functionText_18 q3198 q3200 qs189 q335 q3201 np_X21 rfl OB_23 pd_X21_opensMark (Nat.le_of_ble_eq_true rfl) hd1 (hc_M0 (r := r7) (okX21_opensMark l E A (d - 1)  (by omega)  e8 am) z11) rfl ?_
    refine hr_aload_n hC dX21_functionText_21 rfl ?_
    refine hr_iconst (v := 2) hC dX21_functionText_22 rfl ?_
    obtain ⟨r12, e13, h⟩ := hx_bind h
    refine hs_callV0 hC 23 [_] _ dX21_functionText_23 q3186 q3188 qs186 q335 q3189 np_X21 rfl OB_23 pd_X21_isKey (Nat.le_of_ble_eq_true rfl) hd1 (okX21_isKey l E A (d - 1)  (by omega)  e13 am) rfl ?_
    obtain ⟨r18, e19, h⟩ := hx_bind h
    have J20 : r18.1 = 0 → hc_At hc_V0 E 6 X 96 [(0, .ref (E.2.1 23)), (3, .int r1.1)] [] r18.2.1 am [] := by
      intro z21
      rw [hu_0 z21] at h
      refine hr_aload_n hC dX21_functionText_96 rfl ?_
      refine hr_ldcs (v := 75) 75 hC dX21_functionText_97 (List.mem_of_getElem? (i := 75) rfl) (by decide) rfl ?_
      obtain ⟨r54, e55, h⟩ := hx_bind h
      by_cases z58 : r54.1 = 0
      · rw [ht_0 z58] at h
        refine hs_callV0 hC 23 [_] _ dX21_functionText_99 q3278 q3280 qs206 q335 q3281 np_X21 rfl OB_23 pd_X21_closes (Nat.le_of_ble_eq_true rfl) hd1 (hc_M0 (r := r54) (okX21_closes l E A (d - 1)  (by omega)  e55 am) z58) rfl ?_
        refine hr_aload_n hC dX21_functionText_102 rfl ?_
        refine hr_gA hC F23_22 rfl dX21_functionText_103 q2864 ?_
        refine hr_iload_n hC dX21_functionText_106 rfl ?_
        refine hr_aload_n hC dX21_functionText_107 rfl ?_
        obtain ⟨r59, e60, h⟩ := hx_bind h
        by_cases z63 : r59.1 = 0
        · rw [ht_0 z63] at h
          refine hs_callV0 hC 23 [] _ dX21_functionText_108 q3322 q3324 qs217 q335 q3325 np_X21 rfl OB_23 pd_X21_block (Nat.le_of_ble_eq_true rfl) hd1 (hc_M0 (r := r59) (okX21_block l E A (d - 1) n k0 (by omega)  e60 am) z63) rfl ?_
          obtain ⟨c64, h⟩ := hk_ok h
          obtain ⟨σ65, hσ65, h⟩ := hl_ok h
          refine hs_iast hC A23_22 c64 dX21_functionText_111 ?_
          rw [← hσ65]
          refine hr_aload_n hC dX21_functionText_112 rfl ?_
          refine hr_iload_n hC dX21_functionText_113 rfl ?_
          obtain ⟨r66, e67, h⟩ := hx_bind h
          refine hs_callV0 hC 23 [_] _ dX21_functionText_114 q3306 q3308 qs213 q335 q3309 np_X21 rfl OB_23 pd_X21_add (Nat.le_of_ble_eq_true rfl) hd1 (okX21_add l E A (d - 1)  (by omega)  e67 am) rfl ?_
          obtain rfl := Option.some.inj h
          exact hr_vret hC dX21_functionText_117
        · rw [ht_1 z63] at h
          obtain rfl := Option.some.inj h
          exact hs_callVx (HX z63) hem 23 [] _ dX21_functionText_108 q3322 q3324 qs217 q335 q3325 np_X21 rfl OB_23 pd_X21_block (Nat.le_of_ble_eq_true rfl) hd1 (hc_M1 (r := r59) (okX21_block l E A (d - 1) n k0 (by omega)  e60 am) z63) (hc_rb rfl) rfl
      · rw [ht_1 z58] at h
        obtain rfl := Option.some.inj h
        exact hs_callVx (HX z58) hem 23 [_] _ dX21_functionText_99 q3278 q3280 qs206 q335 q3281 np_X21 rfl OB_23 pd_X21_closes (Nat.le_of_ble_eq_true rfl) hd1 (hc_M1 (r := r54) (okX21_closes l E A (d - 1)  (by omega)  e55 am) z58) (hc_rb rfl) rfl
    have HX : r18.1 ≠ 0 → hc_C hc_V0 E cX21_functionText 6 RX21 none d (.inr r18.1) r18.2.1 (l, A, am, []) X := by
      intro z21
      rw [hu_1 z21] at h
      obtain rfl := Option.some.inj h
      exact HX z21
    clear h
    have h := e19
    refine hr_if_eq (x := _) hC 42 dX21_functionText_26 (by decide) (fun c17 => ?_) (fun c17 => ?_)
    · rw [if_pos c17] at h
      refine hr_aload_n hC dX21_functionText_42 rfl ?_
      refine hr_ldcs (v := 75) 75 hC dX21_functionText_43 (List.mem_of_getElem? (i := 75) rfl) (by decide) rfl ?_
      obtain ⟨r22, e23, h⟩ := hx_bind h
      refine hs_callV0 hC 23 [_] _ dX21_functionText_45 q3202 q3204 qs190 q335 q3205 np_X21 rfl OB_23 pd_X21_is (Nat.le_of_ble_eq_true rfl) hd1 (okX21_is l E A (d - 1)  (by omega)  e23 am) rfl ?_
      refine hr_if_ne (x := _) hC 96 dX21_functionText_48 (by decide) (fun c27 => ?_) (fun c27 => ?_)
      · rw [if_neg c27] at h
        obtain rfl := Option.some.inj h
        exact hr_sub _ rfl (J20 rfl)
      · rw [if_pos c27] at h
        refine hr_aload_n hC dX21_functionText_51 rfl ?_
        obtain ⟨r28, e29, h⟩ := hx_bind h
        by_cases z32 : r28.1 = 0
        · rw [hv_0 z32] at h
          refine hs_callV0 hC 23 [] _ dX21_functionText_52 q3318 q3320 qs216 q335 q3321 np_X21 rfl OB_23 pd_X21_parameter (Nat.le_of_ble_eq_true rfl) hd1 (hc_M0 (r := r28) (okX21_parameter l E A (d - 1)  (by omega)  e29 am) z32) rfl ?_
          refine hr_istore hC dX21_functionText_55 (by decide) ?_
          refine hr_aload_n hC dX21_functionText_57 rfl ?_
          refine hr_gA hC F23_21 rfl dX21_functionText_58 q2863 ?_
          refine hr_iload_n hC dX21_functionText_61 rfl ?_
          refine hr_iload hC dX21_functionText_62 rfl ?_
          obtain ⟨c33, h⟩ := hk_ok h
          obtain ⟨σ34, hσ34, h⟩ := hl_ok h
          refine hs_iast hC A23_21 c33 dX21_functionText_64 ?_
          rw [← hσ34]
          obtain ⟨r48, e49, h⟩ := hx_bind h
          refine hr_sub _ rfl (ll_X21_functionText_65 n k0 hD hem hC n _ _ _ _ am e49 (fun z51 => ?_) (fun z51 => ?_))
          · rw [hw_0 z51] at h
            obtain rfl := Option.some.inj h
            exact hr_sub _ rfl (J20 rfl)
          · rw [hw_1 z51] at h
            obtain rfl := Option.some.inj h
            exact HX z51
        · rw [hv_1 z32] at h
          obtain rfl := Option.some.inj h
          exact hs_callVx (HX z32) hem 23 [] _ dX21_functionText_52 q3318 q3320 qs216 q335 q3321 np_X21 rfl OB_23 pd_X21_parameter (Nat.le_of_ble_eq_true rfl) hd1 (hc_M1 (r := r28) (okX21_parameter l E A (d - 1)  (by omega)  e29 am) z32) (hc_rb rfl) rfl
    · rw [if_neg c17] at h
      refine hr_aload_n hC dX21_functionText_29 rfl ?_
      refine hr_dup hC dX21_functionText_30 rfl ?_
      refine hr_gI hC F23_15 dX21_functionText_31 q2857 ?_
      refine hr_iconst (v := 1) hC dX21_functionText_34 rfl ?_
      refine hr_iadd hC dX21_functionText_35 ?_
      obtain ⟨σ53, hσ53, h⟩ := hl_ok h
      refine hr_pI hC F23_15 PX21_15 dX21_functionText_36 q2857 ?_
      rw [← hσ53]
      refine hr_goto hC 96 dX21_functionText_39 (by decide) ?_
      obtain rfl := Option.some.inj h
      exact hr_sub _ rfl (J20 rfl)
  · rw [ht_1 z11] at h
    obtain rfl := Option.some.inj h
    exact hs_callVx (HX z11) hem 23 [_] _ dX21_functionText_18 q3198 q3200 qs189 q335 q3201 np_X21 rfl OB_23 pd_X21_opensMark (Nat.le_of_ble_eq_true rfl) hd1 (hc_M1 (r := r7) (okX21_opensMark l E A (d - 1)  (by omega)  e8 am) z11) (hc_rb rfl) rfl
