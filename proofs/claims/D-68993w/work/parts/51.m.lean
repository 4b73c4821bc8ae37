set_option maxRecDepth 20000
def okg_X21_check (l : Launch) (E : hc_E) (A : Nat → Prop) (d : Nat) (am : Nat → Nat → Nat) (w : Nat) (a : List Int32) (σ : hc_St) (r : (Int32 × hc_St)) : Prop := match w with
  | 0 => hc_M l hc_V0 yX21_check (ws_ yX21_check cX21_check 8 (some .int)) d E A [.ref (E.2.1 23), .int (a.getD 0 0), .int (a.getD 1 0)] am [] σ (.inl (some (.int r.1))) r.2
  | 1 => hc_M l hc_V0 yX21_checkCall (ws_ yX21_checkCall cX21_checkCall 9 (some .int)) d E A [.ref (E.2.1 23), .int (a.getD 0 0)] am [] σ (.inl (some (.int r.1))) r.2
  | 2 => hc_M l hc_V0 yX21_checkArgument (ws_ yX21_checkArgument cX21_checkArgument 5 none) d E A [.ref (E.2.1 23), .int (a.getD 0 0), .int (a.getD 1 0)] am [] σ (.inl (none)) r.2
  | 3 => hc_M l hc_V0 yX21_checkConstant (ws_ yX21_checkConstant cX21_checkConstant 5 (some .boolean)) d E A [.ref (E.2.1 23), .int (a.getD 0 0)] am [] σ (.inl (some (.int r.1))) r.2
  | 4 => hc_M l hc_V0 yX21_meet (ws_ yX21_meet cX21_meet 3 none) d E A [.ref (E.2.1 23), .int (a.getD 0 0)] am [] σ (.inl (none)) r.2
  | _ => True
def lp_X21_check_197 (n : Nat) (k0 : Nat) (rec : Nat → List Int32 → hc_St → Option (Int32 × hc_St)) : Nat → Int32 → Int32 → Int32 → Int32 → hc_St → Option (hc_St)
  | 0, _, _, _, _, _ => none
  | m + 1, y1, y2, y3, y7, σ => if y7 < 0 then (some (σ)) else (Option.bind (rec 0 [y7, 1] σ) fun r77 => hk (inb y7 (gL r77.2 23 25)) <| lp_X21_check_197 n k0 rec m y1 y2 y3 ((gC r77.2 23 25 y7)) r77.2)
/-- HomeCompilerModel.check(IZ)I -/
def bd_X21_check (n : Nat) (k0 : Nat) (rec : Nat → List Int32 → hc_St → Option (Int32 × hc_St)) (x1 : Int32) (x2 : Int32) (σ : hc_St) : Option (Int32 × hc_St) := hk (inb x1 (gL σ 23 18)) <| Option.bind (α := hc_St × Int32) (if (gC σ 23 18 x1).toInt8.toInt32 = 1 then (some (σ, 1)) else if (gC σ 23 18 x1).toInt8.toInt32 = 2 then (Option.bind (fm_X21_checkName n x1 σ) fun r21 => some (r21.2, r21.1)) else if (gC σ 23 18 x1).toInt8.toInt32 = 3 then (Option.bind (rec 1 [x1] σ) fun r25 => some (r25.2, r25.1)) else if (gC σ 23 18 x1).toInt8.toInt32 = 4 then (Option.bind (fm_X21_checkIndex n x1 σ) fun r29 => hk (inb x1 (gL r29 23 21)) <| Option.bind (rec 0 [((gC r29 23 21 x1)), 1] r29) fun r34 => some (r34.2, 1)) else if (gC σ 23 18 x1).toInt8.toInt32 = 5 then (hk (inb x1 (gL σ 23 19)) <| hk (inb ((gC σ 23 19 x1)) (gL σ 23 12)) <| hl (α := Int32) ((if (gC σ 23 12 ((gC σ 23 19 x1))) = 2 then 1 else 0)) fun v42 => hk (inb x1 (gL σ 23 21)) <| hl (α := Int32) ((if v42 = 0 then 1 else 0)) fun v46 => Option.bind (rec 0 [((gC σ 23 21 x1)), v46] σ) fun r47 => if v42 = 0 then (some (r47.2, 1)) else (hk (inb x1 (gL r47.2 23 21)) <| Option.bind (fm_X21_checkPlace n ((gC r47.2 23 21 x1)) r47.1 r47.2) fun r54 => some (r54, 1))) else if (gC σ 23 18 x1).toInt8.toInt32 = 6 then (hk (inb x1 (gL σ 23 21)) <| Option.bind (rec 0 [((gC σ 23 21 x1)), 0] σ) fun r65 => hk (inb x1 (gL r65.2 23 21)) <| Option.bind (fm_X21_checkPlace n ((gC r65.2 23 21 x1)) r65.1 r65.2) fun r70 => some (r70, 1)) else if (gC σ 23 18 x1).toInt8.toInt32 = 7 then (hk (inb x1 (gL σ 23 21)) <| Option.bind (lp_X21_check_197 n k0 rec n x1 x2 1 ((gC σ 23 21 x1)) σ) fun r82 => some (r82, 1)) else if (gC σ 23 18 x1).toInt8.toInt32 = 8 then (hk (inb x1 (gL σ 23 21)) <| Option.bind (rec 0 [((gC σ 23 21 x1)), 1] σ) fun r88 => hk (inb x1 (gL r88.2 23 22)) <| Option.bind (rec 0 [((gC r88.2 23 22 x1)), 1] r88.2) fun r93 => hk (inb x1 (gL r93.2 23 23)) <| Option.bind (rec 0 [((gC r93.2 23 23 x1)), 1] r93.2) fun r98 => some (r98.2, 1)) else (hk (inb x1 (gL σ 23 21)) <| Option.bind (rec 0 [((gC σ 23 21 x1)), 0] σ) fun r7 => hk (inb x1 (gL r7.2 23 21)) <| Option.bind (fm_X21_checkPlace n ((gC r7.2 23 21 x1)) r7.1 r7.2) fun r12 => hk (inb x1 (gL r12 23 22)) <| Option.bind (rec 0 [((gC r12 23 22 x1)), 1] r12) fun r17 => some (r17.2, 1))) fun r2 => Option.bind (α := hc_St) (if x2 = 0 then (if x2 = 0 then (some (r2.1)) else (if r2.2 = 4 then (hk (inb x1 (gL r2.1 23 19)) <| Option.bind (fm_X21_bad 5 ((gC r2.1 23 19 x1)) r2.1) fun r121 => some (r121)) else (some (r2.1)))) else (if r2.2 = 2 then (Option.bind (fm_X21_first x1 r2.1) fun r127 => Option.bind (fm_X21_bad 3 r127 r2.1) fun r131 => some (r131)) else (if r2.2 = 3 then (Option.bind (fm_X21_first x1 r2.1) fun r146 => Option.bind (fm_X21_bad 3 r146 r2.1) fun r150 => some (r150)) else (if x2 = 0 then (some (r2.1)) else (if r2.2 = 4 then (hk (inb x1 (gL r2.1 23 19)) <| Option.bind (fm_X21_bad 5 ((gC r2.1 23 19 x1)) r2.1) fun r142 => some (r142)) else (some (r2.1))))))) fun r112 => some (r2.2, r112)
set_option maxRecDepth 20000 in
set_option maxHeartbeats 4000000 in
theorem ll_X21_check_197 {l : Launch} {E : hc_E} {A : Nat → Prop} {am : Nat → Nat → Nat} {d : Nat} {kk : Nat} {X : hc_X} (n : Nat) (k0 : Nat) (rec : Nat → List Int32 → hc_St → Option (Int32 × hc_St)) (hD : kk + 1 * k0 + 14 ≤ d) (hem : X.2.2.2.2.2.2.2.2.2.1.exceptionTable.isEmpty = true) (IH : ∀ (w : Nat) (a : List Int32) (σ : hc_St) (r : (Int32 × hc_St)), rec w a σ = some r → ∀ am, okg_X21_check l E A (d - 1) am w a σ r) {oc : hc_Oc} {σe : hc_St} (hC : hc_C hc_V0 E cX21_check 8 RX21 (some .int) d oc σe (l, A, am, []) X) : ∀ (m : Nat) (σ : hc_St) (y1 : Int32) (y2 : Int32) (y3 : Int32) (y7 : Int32) (rl : hc_St) (am1 : Nat → Nat → Nat), lp_X21_check_197 n k0 rec m y1 y2 y3 y7 σ = some rl → (hc_At hc_V0 E 8 X 222 [(0, .ref (E.2.1 23)), (1, .int y1), (2, .int y2), (3, .int y3)] [] rl am1 []) → hc_At hc_V0 E 8 X 197 [(0, .ref (E.2.1 23)), (1, .int y1), (2, .int y2), (3, .int y3), (7, .int y7)] [] σ am1 [] := by
  have hd1 : 1 ≤ d := by omega
  have hd8 : 9 ≤ d := by omega
  have hd12 : 12 ≤ d := by omega
  intro m
  induction m with
  | zero =>
    intro σ y1 y2 y3 y7 rl am1 h
    cases h
  | succ m ih =>
    intro σ y1 y2 y3 y7 rl am1 h JX
    rw [lp_X21_check_197] at h
    refine hr_iload hC dX21_check_197 rfl ?_
    refine hr_if_lt (x := _) hC 222 dX21_check_199 (by decide) (fun c76 => ?_) (fun c76 => ?_)
    · rw [if_pos c76] at h
      obtain rfl := Option.some.inj h
      exact hr_sub _ rfl (JX)
    · rw [if_neg c76] at h
      refine hr_aload_n hC dX21_check_202 rfl ?_
      refine hr_iload hC dX21_check_203 rfl ?_
      refine hr_iconst (v := 1) hC dX21_check_205 rfl ?_
      obtain ⟨r77, e78, h⟩ := hx_bind h
      refine hs_callV0 hC 23 [_, _] _ dX21_check_206 q3442 q3444 qs247 q335 q3445 np_X21 rfl OB_23 pd_X21_check (Nat.le_of_ble_eq_true rfl) hd1 (IH _ _ _ _ e78 am1) rfl ?_
      refine hr_pop hC dX21_check_209 rfl ?_
      refine hr_aload_n hC dX21_check_210 rfl ?_
      refine hr_gA hC F23_25 rfl dX21_check_211 q2867 ?_
      refine hr_iload hC dX21_check_214 rfl ?_
      obtain ⟨c81, h⟩ := hk_ok h
      refine hs_iald hC A23_25 c81 dX21_check_216 ?_
      refine hr_istore hC dX21_check_217 (by decide) ?_
      refine hr_goto hC 197 dX21_check_219 (by decide) ?_
      exact hr_sub _ rfl (ih _ _ _ _ _ _ am1 h JX)
set_option maxRecDepth 20000 in
set_option maxHeartbeats 4000000 in
theorem okbX21_check (l : Launch) (E : hc_E) (A : Nat → Prop) (d : Nat) {kk : Nat} (n : Nat) (k0 : Nat) (rec : Nat → List Int32 → hc_St → Option (Int32 × hc_St)) (hD : kk + 1 * k0 + 14 ≤ d) (IH : ∀ (w : Nat) (a : List Int32) (σ : hc_St) (r : (Int32 × hc_St)), rec w a σ = some r → ∀ am, okg_X21_check l E A (d - 1) am w a σ r) {x1 : Int32} {x2 : Int32} {σ : hc_St} {r : (Int32 × hc_St)} (h : bd_X21_check n k0 rec x1 x2 σ = some r) (am : Nat → Nat → Nat) : hc_M l hc_V0 yX21_check (ws_ yX21_check cX21_check 8 (some .int)) d E A [.ref (E.2.1 23), .int x1, .int x2] am [] σ (.inl (some (.int r.1))) r.2 := by
  have hd1 : 1 ≤ d := by omega
  have hd8 : 9 ≤ d := by omega
  have hd12 : 12 ≤ d := by omega
  refine hc_enter2 (own := RX21) [(0, .ref (E.2.1 23)), (1, .int x1), (2, .int x2)] pl_X21 rfl hc_V0_st hc_G0_nd rfl (Nat.le_of_ble_eq_true rfl) (fun X hC hem => ?_)
  unfold bd_X21_check at h
  refine hr_iconst (v := 1) hC dX21_check_0 rfl ?_
  refine hr_istore_n hC dX21_check_1 (by decide) ?_
  refine hr_aload_n hC dX21_check_2 rfl ?_
  refine hr_gA hC F23_18 rfl dX21_check_3 q2860 ?_
  refine hr_iload_n hC dX21_check_6 rfl ?_
  obtain ⟨c1, h⟩ := hk_ok h
  refine hs_bald hC A23_18 c1 dX21_check_7 ?_
  obtain ⟨r2, e3, h⟩ := hx_bind h
  have J4 : hc_At hc_V0 E 8 X 301 [(0, .ref (E.2.1 23)), (1, .int x1), (2, .int x2), (3, .int r2.2)] [] r2.1 am [] := by
    refine hr_iload_n hC dX21_check_301 rfl ?_
    obtain ⟨r112, e113, h⟩ := hx_bind h
    have J114 : hc_At hc_V0 E 8 X 348 [(3, .int r2.2)] [] r112 am [] := by
      refine hr_iload_n hC dX21_check_348 rfl ?_
      obtain rfl := Option.some.inj h
      exact hr_iret hC dX21_check_349
    clear h
    have h := e113
    refine hr_if_eq (x := _) hC 328 dX21_check_302 (by decide) (fun c111 => ?_) (fun c111 => ?_)
    · rw [if_pos c111] at h
      refine hr_iload_n hC dX21_check_328 rfl ?_
      refine hr_if_eq (x := _) hC 348 dX21_check_329 (by decide) (fun c117 => ?_) (fun c117 => ?_)
      · rw [if_pos c117] at h
        obtain rfl := Option.some.inj h
        exact hr_sub _ rfl (J114)
      · rw [if_neg c117] at h
        refine hr_iload_n hC dX21_check_332 rfl ?_
        refine hr_iconst (v := 4) hC dX21_check_333 rfl ?_
        refine hr_icmp_ne (x := _) hC 348 dX21_check_334 (by decide) (fun c119 => ?_) (fun c119 => ?_)
        · rw [if_neg c119] at h
          obtain rfl := Option.some.inj h
          exact hr_sub _ rfl (J114)
        · rw [if_pos c119] at h
          refine hr_aload_n hC dX21_check_337 rfl ?_
          refine hr_iconst (v := 5) hC dX21_check_338 rfl ?_
          refine hr_aload_n hC dX21_check_339 rfl ?_
          refine hr_gA hC F23_19 rfl dX21_check_340 q2861 ?_
          refine hr_iload_n hC dX21_check_343 rfl ?_
          obtain ⟨c120, h⟩ := hk_ok h
          refine hs_iald hC A23_19 c120 dX21_check_344 ?_
          obtain ⟨r121, e122, h⟩ := hx_bind h
          refine hs_callV0 hC 23 [_, _] _ dX21_check_345 q3398 q3400 qs236 q335 q3401 np_X21 rfl OB_23 pd_X21_bad (Nat.le_of_ble_eq_true rfl) hd1 (okX21_bad l E A (d - 1)  (by omega)  e122 am) rfl ?_
          obtain rfl := Option.some.inj h
          exact hr_sub _ rfl (J114)
    · rw [if_neg c111] at h
      refine hr_iload_n hC dX21_check_305 rfl ?_
      refine hr_iconst (v := 2) hC dX21_check_306 rfl ?_
      refine hr_icmp_eq (x := _) hC 315 dX21_check_307 (by decide) (fun c126 => ?_) (fun c126 => ?_)
      · rw [if_pos c126] at h
        refine hr_aload_n hC dX21_check_315 rfl ?_
        refine hr_iconst (v := 3) hC dX21_check_316 rfl ?_
        refine hr_aload_n hC dX21_check_317 rfl ?_
        refine hr_iload_n hC dX21_check_318 rfl ?_
        obtain ⟨r127, e128, h⟩ := hx_bind h
        refine hs_callV0 hC 23 [_] _ dX21_check_319 q3474 q3476 qs255 q335 q3477 np_X21 rfl OB_23 pd_X21_first (Nat.le_of_ble_eq_true rfl) hd1 (okX21_first l E A (d - 1)  (by omega)  e128 am) rfl ?_
        obtain ⟨r131, e132, h⟩ := hx_bind h
        refine hs_callV0 hC 23 [_, _] _ dX21_check_322 q3398 q3400 qs236 q335 q3401 np_X21 rfl OB_23 pd_X21_bad (Nat.le_of_ble_eq_true rfl) hd1 (okX21_bad l E A (d - 1)  (by omega)  e132 am) rfl ?_
        refine hr_goto hC 348 dX21_check_325 (by decide) ?_
        obtain rfl := Option.some.inj h
        exact hr_sub _ rfl (J114)
      · rw [if_neg c126] at h
        refine hr_iload_n hC dX21_check_310 rfl ?_
        refine hr_iconst (v := 3) hC dX21_check_311 rfl ?_
        refine hr_icmp_ne (x := _) hC 328 dX21_check_312 (by decide) (fun c136 => ?_) (fun c136 => ?_)
        · rw [if_neg c136] at h
          refine hr_iload_n hC dX21_check_328 rfl ?_
          refine hr_if_eq (x := _) hC 348 dX21_check_329 (by decide) (fun c138 => ?_) (fun c138 => ?_)
          · rw [if_pos c138] at h
            obtain rfl := Option.some.inj h
            exact hr_sub _ rfl (J114)
          · rw [if_neg c138] at h
            refine hr_iload_n hC dX21_check_332 rfl ?_
            refine hr_iconst (v := 4) hC dX21_check_333 rfl ?_
            refine hr_icmp_ne (x := _) hC 348 dX21_check_334 (by decide) (fun c140 => ?_) (fun c140 => ?_)
            · rw [if_neg c140] at h
              obtain rfl := Option.some.inj h
              exact hr_sub _ rfl (J114)
            · rw [if_pos c140] at h
              refine hr_aload_n hC dX21_check_337 rfl ?_
              refine hr_iconst (v := 5) hC dX21_check_338 rfl ?_
              refine hr_aload_n hC dX21_check_339 rfl ?_
              refine hr_gA hC F23_19 rfl dX21_check_340 q2861 ?_
              refine hr_iload_n hC dX21_check_343 rfl ?_
              obtain ⟨c141, h⟩ := hk_ok h
              refine hs_iald hC A23_19 c141 dX21_check_344 ?_
              obtain ⟨r142, e143, h⟩ := hx_bind h
              refine hs_callV0 hC 23 [_, _] _ dX21_check_345 q3398 q3400 qs236 q335 q3401 np_X21 rfl OB_23 pd_X21_bad (Nat.le_of_ble_eq_true rfl) hd1 (okX21_bad l E A (d - 1)  (by omega)  e143 am) rfl ?_
              obtain rfl := Option.some.inj h
              exact hr_sub _ rfl (J114)
        · rw [if_pos c136] at h
          refine hr_aload_n hC dX21_check_315 rfl ?_
          refine hr_iconst (v := 3) hC dX21_check_316 rfl ?_
          refine hr_aload_n hC dX21_check_317 rfl ?_
          refine hr_iload_n hC dX21_check_318 rfl ?_
          obtain ⟨r146, e147, h⟩ := hx_bind h
          refine hs_callV0 hC 23 [_] _ dX21_check_319 q3474 q3476 qs255 q335 q3477 np_X21 rfl OB_23 pd_X21_first (Nat.le_of_ble_eq_true rfl) hd1 (okX21_first l E A (d - 1)  (by omega)  e147 am) rfl ?_
          obtain ⟨r150, e151, h⟩ := hx_bind h
          refine hs_callV0 hC 23 [_, _] _ dX21_check_322 q3398 q3400 qs236 q335 q3401 np_X21 rfl OB_23 pd_X21_bad (Nat.le_of_ble_eq_true rfl) hd1 (okX21_bad l E A (d - 1)  (by omega)  e151 am) rfl ?_
          refine hr_goto hC 348 dX21_check_325 (by decide) ?_
          obtain rfl := Option.some.inj h
          exact hr_sub _ rfl (J114)
  clear h
  have h := e3
  by_cases c102 : (gC σ 23 18 x1).toInt8.toInt32 = 1
  · rw [if_pos c102] at h
    refine hr_tableIn hC 56 dX21_check_8 (by rw [c102] <;> decide) (by rw [c102] <;> decide) (by rw [c102] <;> rfl) (by decide) ?_
    refine hr_goto hC 301 dX21_check_56 (by decide) ?_
    obtain rfl := Option.some.inj h
    exact hr_sub _ rfl (J4)
  rw [if_neg c102] at h
  by_cases c103 : (gC σ 23 18 x1).toInt8.toInt32 = 2
  · rw [if_pos c103] at h
    refine hr_tableIn hC 59 dX21_check_8 (by rw [c103] <;> decide) (by rw [c103] <;> decide) (by rw [c103] <;> rfl) (by decide) ?_
    refine hr_aload_n hC dX21_check_59 rfl ?_
    refine hr_iload_n hC dX21_check_60 rfl ?_
    obtain ⟨r21, e22, h⟩ := hx_bind h
    refine hs_callV0 hC 23 [_] _ dX21_check_61 q3446 q3448 qs248 q335 q3449 np_X21 rfl OB_23 pd_X21_checkName (Nat.le_of_ble_eq_true rfl) hd1 (okX21_checkName l E A (d - 1) n (by omega)  e22 am) rfl ?_
    refine hr_istore_n hC dX21_check_64 (by decide) ?_
    refine hr_goto hC 301 dX21_check_65 (by decide) ?_
    obtain rfl := Option.some.inj h
    exact hr_sub _ rfl (J4)
  rw [if_neg c103] at h
  by_cases c104 : (gC σ 23 18 x1).toInt8.toInt32 = 3
  · rw [if_pos c104] at h
    refine hr_tableIn hC 68 dX21_check_8 (by rw [c104] <;> decide) (by rw [c104] <;> decide) (by rw [c104] <;> rfl) (by decide) ?_
    refine hr_aload_n hC dX21_check_68 rfl ?_
    refine hr_iload_n hC dX21_check_69 rfl ?_
    obtain ⟨r25, e26, h⟩ := hx_bind h
    refine hs_callV0 hC 23 [_] _ dX21_check_70 q3450 q3452 qs249 q335 q3453 np_X21 rfl OB_23 pd_X21_checkCall (Nat.le_of_ble_eq_true rfl) hd1 (IH _ _ _ _ e26 am) rfl ?_
    refine hr_istore_n hC dX21_check_73 (by decide) ?_
    refine hr_goto hC 301 dX21_check_74 (by decide) ?_
    obtain rfl := Option.some.inj h
    exact hr_sub _ rfl (J4)
  rw [if_neg c104] at h
  by_cases c105 : (gC σ 23 18 x1).toInt8.toInt32 = 4
  · rw [if_pos c105] at h
    refine hr_tableIn hC 77 dX21_check_8 (by rw [c105] <;> decide) (by rw [c105] <;> decide) (by rw [c105] <;> rfl) (by decide) ?_
    refine hr_aload_n hC dX21_check_77 rfl ?_
    refine hr_iload_n hC dX21_check_78 rfl ?_
    obtain ⟨r29, e30, h⟩ := hx_bind h
    refine hs_callV0 hC 23 [_] _ dX21_check_79 q3486 q3488 qs258 q335 q3489 np_X21 rfl OB_23 pd_X21_checkIndex (Nat.le_of_ble_eq_true rfl) hd1 (okX21_checkIndex l E A (d - 1) n (by omega)  e30 am) rfl ?_
    refine hr_aload_n hC dX21_check_82 rfl ?_
    refine hr_aload_n hC dX21_check_83 rfl ?_
    refine hr_gA hC F23_21 rfl dX21_check_84 q2863 ?_
    refine hr_iload_n hC dX21_check_87 rfl ?_
    obtain ⟨c33, h⟩ := hk_ok h
    refine hs_iald hC A23_21 c33 dX21_check_88 ?_
    refine hr_iconst (v := 1) hC dX21_check_89 rfl ?_
    obtain ⟨r34, e35, h⟩ := hx_bind h
    refine hs_callV0 hC 23 [_, _] _ dX21_check_90 q3442 q3444 qs247 q335 q3445 np_X21 rfl OB_23 pd_X21_check (Nat.le_of_ble_eq_true rfl) hd1 (IH _ _ _ _ e35 am) rfl ?_
    refine hr_pop hC dX21_check_93 rfl ?_
    refine hr_goto hC 301 dX21_check_94 (by decide) ?_
    obtain rfl := Option.some.inj h
    exact hr_sub _ rfl (J4)
  rw [if_neg c105] at h
  by_cases c106 : (gC σ 23 18 x1).toInt8.toInt32 = 5
  · rw [if_pos c106] at h
    refine hr_tableIn hC 97 dX21_check_8 (by rw [c106] <;> decide) (by rw [c106] <;> decide) (by rw [c106] <;> rfl) (by decide) ?_
    refine hr_aload_n hC dX21_check_97 rfl ?_
    refine hr_gA hC F23_12 rfl dX21_check_98 q2854 ?_
    refine hr_aload_n hC dX21_check_101 rfl ?_
    refine hr_gA hC F23_19 rfl dX21_check_102 q2861 ?_
    refine hr_iload_n hC dX21_check_105 rfl ?_
    obtain ⟨c38, h⟩ := hk_ok h
    refine hs_iald hC A23_19 c38 dX21_check_106 ?_
    obtain ⟨c39, h⟩ := hk_ok h
    refine hs_iald hC A23_12 c39 dX21_check_107 ?_
    refine hr_iconst (v := 2) hC dX21_check_108 rfl ?_
    obtain ⟨v42, hv42, h⟩ := hl_ok h
    have J61 : ∀ w62 : Int32, (if (gC σ 23 12 ((gC σ 23 19 x1))) = 2 then 1 else 0) = w62 → hc_At hc_V0 E 8 X 117 [(0, .ref (E.2.1 23)), (1, .int x1), (2, .int x2), (3, .int 1)] [.int w62] σ am [] := by
      intro w62 hw62
      obtain rfl := hv42.trans hw62
      refine hr_istore hC dX21_check_117 (by decide) ?_
      refine hr_aload_n hC dX21_check_119 rfl ?_
      refine hr_aload_n hC dX21_check_120 rfl ?_
      refine hr_gA hC F23_21 rfl dX21_check_121 q2863 ?_
      refine hr_iload_n hC dX21_check_124 rfl ?_
      obtain ⟨c43, h⟩ := hk_ok h
      refine hs_iald hC A23_21 c43 dX21_check_125 ?_
      refine hr_iload hC dX21_check_126 rfl ?_
      obtain ⟨v46, hv46, h⟩ := hl_ok h
      have J58 : ∀ w59 : Int32, (if v42 = 0 then 1 else 0) = w59 → hc_At hc_V0 E 8 X 136 [(0, .ref (E.2.1 23)), (1, .int x1), (2, .int x2), (3, .int 1), (4, .int v42)] [.int w59, .int (gC σ 23 21 x1), .ref (E.2.1 23)] σ am [] := by
        intro w59 hw59
        obtain rfl := hv46.trans hw59
        obtain ⟨r47, e48, h⟩ := hx_bind h
        refine hs_callV0 hC 23 [_, _] _ dX21_check_136 q3442 q3444 qs247 q335 q3445 np_X21 rfl OB_23 pd_X21_check (Nat.le_of_ble_eq_true rfl) hd1 (IH _ _ _ _ e48 am) rfl ?_
        refine hr_istore hC dX21_check_139 (by decide) ?_
        refine hr_iload hC dX21_check_141 rfl ?_
        refine hr_if_eq (x := _) hC 301 dX21_check_143 (by decide) (fun c52 => ?_) (fun c52 => ?_)
        · rw [if_pos c52] at h
          obtain rfl := Option.some.inj h
          exact hr_sub _ rfl (J4)
        · rw [if_neg c52] at h
          refine hr_aload_n hC dX21_check_146 rfl ?_
          refine hr_aload_n hC dX21_check_147 rfl ?_
          refine hr_gA hC F23_21 rfl dX21_check_148 q2863 ?_
          refine hr_iload_n hC dX21_check_151 rfl ?_
          obtain ⟨c53, h⟩ := hk_ok h
          refine hs_iald hC A23_21 c53 dX21_check_152 ?_
          refine hr_iload hC dX21_check_153 rfl ?_
          obtain ⟨r54, e55, h⟩ := hx_bind h
          refine hs_callV0 hC 23 [_, _] _ dX21_check_155 q3490 q3492 qs259 q335 q3493 np_X21 rfl OB_23 pd_X21_checkPlace (Nat.le_of_ble_eq_true rfl) hd1 (okX21_checkPlace l E A (d - 1) n (by omega)  e55 am) rfl ?_
          refine hr_goto hC 301 dX21_check_158 (by decide) ?_
          obtain rfl := Option.some.inj h
          exact hr_sub _ rfl (J4)
      refine hr_if_ne (x := _) hC 135 dX21_check_128 (by decide) (fun c60 => ?_) (fun c60 => ?_)
      · refine hr_iconst (v := 0) hC dX21_check_135 rfl ?_
        exact hr_sub _ rfl (J58 _ (by first | (rw [if_neg c60]; done) | (simp only [if_neg c60]; done) | rfl))
      · refine hr_iconst (v := 1) hC dX21_check_131 rfl ?_
        refine hr_goto hC 136 dX21_check_132 (by decide) ?_
        exact hr_sub _ rfl (J58 _ (by first | (rw [if_pos c60]; done) | (simp only [if_pos c60]; done) | rfl))
    refine hr_icmp_ne (x := _) hC 116 dX21_check_109 (by decide) (fun c63 => ?_) (fun c63 => ?_)
    · refine hr_iconst (v := 0) hC dX21_check_116 rfl ?_
      exact hr_sub _ rfl (J61 _ (by first | (rw [if_neg c63]; done) | (simp only [if_neg c63]; done) | rfl))
    · refine hr_iconst (v := 1) hC dX21_check_112 rfl ?_
      refine hr_goto hC 117 dX21_check_113 (by decide) ?_
      exact hr_sub _ rfl (J61 _ (by first | (rw [if_pos c63]; done) | (simp only [if_pos c63]; done) | rfl))
  rw [if_neg c106] at h
  by_cases c107 : (gC σ 23 18 x1).toInt8.toInt32 = 6
  · rw [if_pos c107] at h
    refine hr_tableIn hC 161 dX21_check_8 (by rw [c107] <;> decide) (by rw [c107] <;> decide) (by rw [c107] <;> rfl) (by decide) ?_
    refine hr_aload_n hC dX21_check_161 rfl ?_
    refine hr_aload_n hC dX21_check_162 rfl ?_
    refine hr_gA hC F23_21 rfl dX21_check_163 q2863 ?_
    refine hr_iload_n hC dX21_check_166 rfl ?_
    obtain ⟨c64, h⟩ := hk_ok h
    refine hs_iald hC A23_21 c64 dX21_check_167 ?_
    refine hr_iconst (v := 0) hC dX21_check_168 rfl ?_
    obtain ⟨r65, e66, h⟩ := hx_bind h
    refine hs_callV0 hC 23 [_, _] _ dX21_check_169 q3442 q3444 qs247 q335 q3445 np_X21 rfl OB_23 pd_X21_check (Nat.le_of_ble_eq_true rfl) hd1 (IH _ _ _ _ e66 am) rfl ?_
    refine hr_istore hC dX21_check_172 (by decide) ?_
    refine hr_aload_n hC dX21_check_174 rfl ?_
    refine hr_aload_n hC dX21_check_175 rfl ?_
    refine hr_gA hC F23_21 rfl dX21_check_176 q2863 ?_
    refine hr_iload_n hC dX21_check_179 rfl ?_
    obtain ⟨c69, h⟩ := hk_ok h
    refine hs_iald hC A23_21 c69 dX21_check_180 ?_
    refine hr_iload hC dX21_check_181 rfl ?_
    obtain ⟨r70, e71, h⟩ := hx_bind h
    refine hs_callV0 hC 23 [_, _] _ dX21_check_183 q3490 q3492 qs259 q335 q3493 np_X21 rfl OB_23 pd_X21_checkPlace (Nat.le_of_ble_eq_true rfl) hd1 (okX21_checkPlace l E A (d - 1) n (by omega)  e71 am) rfl ?_
    refine hr_goto hC 301 dX21_check_186 (by decide) ?_
    obtain rfl := Option.some.inj h
    exact hr_sub _ rfl (J4)
  rw [if_neg c107] at h
  by_cases c108 : (gC σ 23 18 x1).toInt8.toInt32 = 7
  · rw [if_pos c108] at h
    refine hr_tableIn hC 189 dX21_check_8 (by rw [c108] <;> decide) (by rw [c108] <;> decide) (by rw [c108] <;> rfl) (by decide) ?_
    refine hr_aload_n hC dX21_check_189 rfl ?_
    refine hr_gA hC F23_21 rfl dX21_check_190 q2863 ?_
    refine hr_iload_n hC dX21_check_193 rfl ?_
    obtain ⟨c74, h⟩ := hk_ok h
    refine hs_iald hC A23_21 c74 dX21_check_194 ?_
    refine hr_istore hC dX21_check_195 (by decide) ?_
    obtain ⟨r82, e83, h⟩ := hx_bind h
    refine hr_sub _ rfl (ll_X21_check_197 n k0 rec hD hem IH hC n _ _ _ _ _ _ am e83 ?_)
    refine hr_goto hC 301 dX21_check_222 (by decide) ?_
    obtain rfl := Option.some.inj h
    exact hr_sub _ rfl (J4)
  rw [if_neg c108] at h
  by_cases c109 : (gC σ 23 18 x1).toInt8.toInt32 = 8
  · rw [if_pos c109] at h
    refine hr_tableIn hC 225 dX21_check_8 (by rw [c109] <;> decide) (by rw [c109] <;> decide) (by rw [c109] <;> rfl) (by decide) ?_
    refine hr_aload_n hC dX21_check_225 rfl ?_
    refine hr_aload_n hC dX21_check_226 rfl ?_
    refine hr_gA hC F23_21 rfl dX21_check_227 q2863 ?_
    refine hr_iload_n hC dX21_check_230 rfl ?_
    obtain ⟨c87, h⟩ := hk_ok h
    refine hs_iald hC A23_21 c87 dX21_check_231 ?_
    refine hr_iconst (v := 1) hC dX21_check_232 rfl ?_
    obtain ⟨r88, e89, h⟩ := hx_bind h
    refine hs_callV0 hC 23 [_, _] _ dX21_check_233 q3442 q3444 qs247 q335 q3445 np_X21 rfl OB_23 pd_X21_check (Nat.le_of_ble_eq_true rfl) hd1 (IH _ _ _ _ e89 am) rfl ?_
    refine hr_pop hC dX21_check_236 rfl ?_
    refine hr_aload_n hC dX21_check_237 rfl ?_
    refine hr_aload_n hC dX21_check_238 rfl ?_
    refine hr_gA hC F23_22 rfl dX21_check_239 q2864 ?_
    refine hr_iload_n hC dX21_check_242 rfl ?_
    obtain ⟨c92, h⟩ := hk_ok h
    refine hs_iald hC A23_22 c92 dX21_check_243 ?_
    refine hr_iconst (v := 1) hC dX21_check_244 rfl ?_
    obtain ⟨r93, e94, h⟩ := hx_bind h
    refine hs_callV0 hC 23 [_, _] _ dX21_check_245 q3442 q3444 qs247 q335 q3445 np_X21 rfl OB_23 pd_X21_check (Nat.le_of_ble_eq_true rfl) hd1 (IH _ _ _ _ e94 am) rfl ?_
    refine hr_pop hC dX21_check_248 rfl ?_
    refine hr_aload_n hC dX21_check_249 rfl ?_
    refine hr_aload_n hC dX21_check_250 rfl ?_
    refine hr_gA hC F23_23 rfl dX21_check_251 q2865 ?_
    refine hr_iload_n hC dX21_check_254 rfl ?_
    obtain ⟨c97, h⟩ := hk_ok h
    refine hs_iald hC A23_23 c97 dX21_check_255 ?_
    refine hr_iconst (v := 1) hC dX21_check_256 rfl ?_
    obtain ⟨r98, e99, h⟩ := hx_bind h
    refine hs_callV0 hC 23 [_, _] _ dX21_check_257 q3442 q3444 qs247 q335 q3445 np_X21 rfl OB_23 pd_X21_check (Nat.le_of_ble_eq_true rfl) hd1 (IH _ _ _ _ e99 am) rfl ?_
    refine hr_pop hC dX21_check_260 rfl ?_
    refine hr_goto hC 301 dX21_check_261 (by decide) ?_
    obtain rfl := Option.some.inj h
    exact hr_sub _ rfl (J4)
  rw [if_neg c109] at h
  refine hr_tableD hC 264 dX21_check_8 (ks := [1, 2, 3, 4, 5, 6, 7, 8]) (hc_l1 (hc_ne c102 rfl) (hc_l1 (hc_ne c103 rfl) (hc_l1 (hc_ne c104 rfl) (hc_l1 (hc_ne c105 rfl) (hc_l1 (hc_ne c106 rfl) (hc_l1 (hc_ne c107 rfl) (hc_l1 (hc_ne c108 rfl) (hc_l1 (hc_ne c109 rfl) hc_l0)))))))) (by decide) (by decide) (by decide) ?_
  refine hr_aload_n hC dX21_check_264 rfl ?_
  refine hr_aload_n hC dX21_check_265 rfl ?_
  refine hr_gA hC F23_21 rfl dX21_check_266 q2863 ?_
  refine hr_iload_n hC dX21_check_269 rfl ?_
  obtain ⟨c6, h⟩ := hk_ok h
  refine hs_iald hC A23_21 c6 dX21_check_270 ?_
  refine hr_iconst (v := 0) hC dX21_check_271 rfl ?_
  obtain ⟨r7, e8, h⟩ := hx_bind h
  refine hs_callV0 hC 23 [_, _] _ dX21_check_272 q3442 q3444 qs247 q335 q3445 np_X21 rfl OB_23 pd_X21_check (Nat.le_of_ble_eq_true rfl) hd1 (IH _ _ _ _ e8 am) rfl ?_
  refine hr_istore hC dX21_check_275 (by decide) ?_
  refine hr_aload_n hC dX21_check_277 rfl ?_
  refine hr_aload_n hC dX21_check_278 rfl ?_
  refine hr_gA hC F23_21 rfl dX21_check_279 q2863 ?_
  refine hr_iload_n hC dX21_check_282 rfl ?_
  obtain ⟨c11, h⟩ := hk_ok h
  refine hs_iald hC A23_21 c11 dX21_check_283 ?_
  refine hr_iload hC dX21_check_284 rfl ?_
  obtain ⟨r12, e13, h⟩ := hx_bind h
  refine hs_callV0 hC 23 [_, _] _ dX21_check_286 q3490 q3492 qs259 q335 q3493 np_X21 rfl OB_23 pd_X21_checkPlace (Nat.le_of_ble_eq_true rfl) hd1 (okX21_checkPlace l E A (d - 1) n (by omega)  e13 am) rfl ?_
  refine hr_aload_n hC dX21_check_289 rfl ?_
  refine hr_aload_n hC dX21_check_290 rfl ?_
  refine hr_gA hC F23_22 rfl dX21_check_291 q2864 ?_
  refine hr_iload_n hC dX21_check_294 rfl ?_
  obtain ⟨c16, h⟩ := hk_ok h
  refine hs_iald hC A23_22 c16 dX21_check_295 ?_
  refine hr_iconst (v := 1) hC dX21_check_296 rfl ?_
  obtain ⟨r17, e18, h⟩ := hx_bind h
  refine hs_callV0 hC 23 [_, _] _ dX21_check_297 q3442 q3444 qs247 q335 q3445 np_X21 rfl OB_23 pd_X21_check (Nat.le_of_ble_eq_true rfl) hd1 (IH _ _ _ _ e18 am) rfl ?_
  refine hr_pop hC dX21_check_300 rfl ?_
  obtain rfl := Option.some.inj h
  exact hr_sub _ rfl (J4)
def lp_X21_checkCall_94 (n : Nat) (k0 : Nat) (rec : Nat → List Int32 → hc_St → Option (Int32 × hc_St)) : Nat → Int32 → Int32 → Int32 → Int32 → Int32 → Int32 → hc_St → Option (hc_St × Int32)
  | 0, _, _, _, _, _, _, _ => none
  | m + 1, y2, y3, y4, y5, y6, y7, σ => if y7 < 0 then (some (σ, y6)) else (Option.bind (α := Int32) (if y5 = 0 then (some (32)) else (Option.bind (fm_X21_taken n y4 y3 y6 σ) fun r47 => some (r47))) fun r43 => Option.bind (rec 2 [y7, r43] σ) fun r51 => hk (inb y7 (gL r51.2 23 25)) <| lp_X21_checkCall_94 n k0 rec m y2 y3 y4 y5 ((y6 + 1)) ((gC r51.2 23 25 y7)) r51.2)
/-- HomeCompilerModel.checkCall(I)I -/
def bd_X21_checkCall (n : Nat) (k0 : Nat) (rec : Nat → List Int32 → hc_St → Option (Int32 × hc_St)) (x1 : Int32) (σ : hc_St) : Option (Int32 × hc_St) := hk (inb x1 (gL σ 23 19)) <| Option.bind (fm_X21_findOwn n ((gC σ 23 19 x1)) σ) fun r2 => Option.bind (α := Int32) (if r2 < 0 then (Option.bind (fm_X21_findFunction n ((gC σ 23 19 x1)) σ) fun r12 => some (r12)) else (some ((-1)))) fun r8 => Option.bind (fm_X21_find n ((gC σ 23 19 x1)) 0 σ) fun r16 => hl (α := Int32) ((if 0 ≤ r16 then 0 else (if 0 ≤ r2 then 1 else (if r8 < 0 then 0 else 1)))) fun v22 => Option.bind (α := hc_St) (if v22 = 0 then (Option.bind (fm_X21_bad 2 ((gC σ 23 19 x1)) σ) fun r29 => some (r29)) else (some (σ))) fun r25 => hl (α := Int32) ((if r2 < 0 then (100 + r8) else r2)) fun v35 => hk (inb x1 (gL r25 23 22)) <| hl (pC r25 23 22 x1 v35) fun σ37 => hk (inb x1 (gL σ37 23 21)) <| Option.bind (lp_X21_checkCall_94 n k0 rec n ((gC σ 23 19 x1)) r2 r8 v22 0 ((gC σ37 23 21 x1)) σ37) fun r56 => if v22 = 0 then (some (0, r56.1)) else (Option.bind (α := hc_St) (if r56.2 = 0 then (Option.bind (fm_X21_taken n r8 r2 0 r56.1) fun r89 => if r89 = 32 then (some (r56.1)) else (Option.bind (fm_X21_bad 4 ((gC σ 23 19 x1)) r56.1) fun r95 => some (r95))) else (Option.bind (fm_X21_taken n r8 r2 ((r56.2 - 1)) r56.1) fun r69 => if r69 = 32 then (Option.bind (fm_X21_bad 4 ((gC σ 23 19 x1)) r56.1) fun r75 => some (r75)) else (Option.bind (fm_X21_taken n r8 r2 r56.2 r56.1) fun r79 => if r79 = 32 then (some (r56.1)) else (Option.bind (fm_X21_bad 4 ((gC σ 23 19 x1)) r56.1) fun r85 => some (r85))))) fun r65 => Option.bind (α := Int32) (if r2 < 0 then (hk (inb r8 (gL r65 23 44)) <| hk (inb ((gC r65 23 44 r8)) (gL r65 23 26)) <| if (gC r65 23 26 ((gC r65 23 44 r8))) = 2 then (some (1)) else (some (0))) else (hk (inb r2 (gL r65 23 3)) <| hk (hsc ((gC r65 23 3 r2)) 0) <| if (sCh ((gC r65 23 3 r2)) 0) = 118 then (some (1)) else (some (0)))) fun r101 => hl (α := Int32) ((if r101 = 0 then 1 else 4)) fun v115 => some (v115, r65))
set_option maxRecDepth 20000 in
set_option maxHeartbeats 4000000 in
theorem ll_X21_checkCall_94 {l : Launch} {E : hc_E} {A : Nat → Prop} {am : Nat → Nat → Nat} {d : Nat} {kk : Nat} {X : hc_X} (n : Nat) (k0 : Nat) (rec : Nat → List Int32 → hc_St → Option (Int32 × hc_St)) (hD : kk + 1 * k0 + 14 ≤ d) (hem : X.2.2.2.2.2.2.2.2.2.1.exceptionTable.isEmpty = true) (IH : ∀ (w : Nat) (a : List Int32) (σ : hc_St) (r : (Int32 × hc_St)), rec w a σ = some r → ∀ am, okg_X21_check l E A (d - 1) am w a σ r) {oc : hc_Oc} {σe : hc_St} (hC : hc_C hc_V0 E cX21_checkCall 9 RX21 (some .int) d oc σe (l, A, am, []) X) : ∀ (m : Nat) (σ : hc_St) (y2 : Int32) (y3 : Int32) (y4 : Int32) (y5 : Int32) (y6 : Int32) (y7 : Int32) (rl : hc_St × Int32) (am1 : Nat → Nat → Nat), lp_X21_checkCall_94 n k0 rec m y2 y3 y4 y5 y6 y7 σ = some rl → (hc_At hc_V0 E 9 X 143 [(0, .ref (E.2.1 23)), (2, .int y2), (3, .int y3), (4, .int y4), (5, .int y5), (6, .int rl.2)] [] rl.1 am1 []) → hc_At hc_V0 E 9 X 94 [(0, .ref (E.2.1 23)), (2, .int y2), (3, .int y3), (4, .int y4), (5, .int y5), (6, .int y6), (7, .int y7)] [] σ am1 [] := by
  have hd1 : 1 ≤ d := by omega
  have hd8 : 9 ≤ d := by omega
  have hd12 : 12 ≤ d := by omega
  intro m
  induction m with
  | zero =>
    intro σ y2 y3 y4 y5 y6 y7 rl am1 h
    cases h
  | succ m ih =>
    intro σ y2 y3 y4 y5 y6 y7 rl am1 h JX
    rw [lp_X21_checkCall_94] at h
    refine hr_iload hC dX21_checkCall_94 rfl ?_
    refine hr_if_lt (x := _) hC 143 dX21_checkCall_96 (by decide) (fun c40 => ?_) (fun c40 => ?_)
    · rw [if_pos c40] at h
      obtain rfl := Option.some.inj h
      exact hr_sub _ rfl (JX)
    · rw [if_neg c40] at h
      refine hr_iload hC dX21_checkCall_99 rfl ?_
      obtain ⟨r43, e44, h⟩ := hx_bind h
      have J45 : hc_At hc_V0 E 9 X 118 [(0, .ref (E.2.1 23)), (2, .int y2), (3, .int y3), (4, .int y4), (5, .int y5), (6, .int y6), (7, .int y7)] [.int r43] σ am1 [] := by
        refine hr_istore hC dX21_checkCall_118 (by decide) ?_
        refine hr_aload_n hC dX21_checkCall_120 rfl ?_
        refine hr_iload hC dX21_checkCall_121 rfl ?_
        refine hr_iload hC dX21_checkCall_123 rfl ?_
        obtain ⟨r51, e52, h⟩ := hx_bind h
        refine hs_callV0 hC 23 [_, _] _ dX21_checkCall_125 q3458 q3460 qs251 q335 q3461 np_X21 rfl OB_23 pd_X21_checkArgument (Nat.le_of_ble_eq_true rfl) hd1 (IH _ _ _ _ e52 am1) rfl ?_
        refine hr_iinc (v := y6 + 1) hC dX21_checkCall_128 rfl rfl (by decide) ?_
        refine hr_aload_n hC dX21_checkCall_131 rfl ?_
        refine hr_gA hC F23_25 rfl dX21_checkCall_132 q2867 ?_
        refine hr_iload hC dX21_checkCall_135 rfl ?_
        obtain ⟨c55, h⟩ := hk_ok h
        refine hs_iald hC A23_25 c55 dX21_checkCall_137 ?_
        refine hr_istore hC dX21_checkCall_138 (by decide) ?_
        refine hr_goto hC 94 dX21_checkCall_140 (by decide) ?_
        exact hr_sub _ rfl (ih _ _ _ _ _ _ _ _ am1 h JX)
      clear h
      have h := e44
      refine hr_if_eq (x := _) hC 116 dX21_checkCall_101 (by decide) (fun c42 => ?_) (fun c42 => ?_)
      · rw [if_pos c42] at h
        refine hr_bipush (v := 32) hC dX21_checkCall_116 rfl ?_
        obtain rfl := Option.some.inj h
        exact hr_sub _ rfl (J45)
      · rw [if_neg c42] at h
        refine hr_aload_n hC dX21_checkCall_104 rfl ?_
        refine hr_iload hC dX21_checkCall_105 rfl ?_
        refine hr_iload_n hC dX21_checkCall_107 rfl ?_
        refine hr_iload hC dX21_checkCall_108 rfl ?_
        obtain ⟨r47, e48, h⟩ := hx_bind h
        refine hs_callV0 hC 23 [_, _, _] _ dX21_checkCall_110 q3454 q3456 qs250 q335 q3457 np_X21 rfl OB_23 pd_X21_taken (Nat.le_of_ble_eq_true rfl) hd1 (okX21_taken l E A (d - 1) n (by omega)  e48 am1) rfl ?_
        refine hr_goto hC 118 dX21_checkCall_113 (by decide) ?_
        obtain rfl := Option.some.inj h
        exact hr_sub _ rfl (J45)
set_option maxRecDepth 20000 in
set_option maxHeartbeats 4000000 in
theorem okbX21_checkCall (l : Launch) (E : hc_E) (A : Nat → Prop) (d : Nat) {kk : Nat} (n : Nat) (k0 : Nat) (rec : Nat → List Int32 → hc_St → Option (Int32 × hc_St)) (hD : kk + 1 * k0 + 14 ≤ d) (IH : ∀ (w : Nat) (a : List Int32) (σ : hc_St) (r : (Int32 × hc_St)), rec w a σ = some r → ∀ am, okg_X21_check l E A (d - 1) am w a σ r) {x1 : Int32} {σ : hc_St} {r : (Int32 × hc_St)} (h : bd_X21_checkCall n k0 rec x1 σ = some r) (am : Nat → Nat → Nat) : hc_M l hc_V0 yX21_checkCall (ws_ yX21_checkCall cX21_checkCall 9 (some .int)) d E A [.ref (E.2.1 23), .int x1] am [] σ (.inl (some (.int r.1))) r.2 := by
  have hd1 : 1 ≤ d := by omega
  have hd8 : 9 ≤ d := by omega
  have hd12 : 12 ≤ d := by omega
  refine hc_enter2 (own := RX21) [(0, .ref (E.2.1 23)), (1, .int x1)] pl_X21 rfl hc_V0_st hc_G0_nd rfl (Nat.le_of_ble_eq_true rfl) (fun X hC hem => ?_)
  unfold bd_X21_checkCall at h
  refine hr_aload_n hC dX21_checkCall_0 rfl ?_
  refine hr_gA hC F23_19 rfl dX21_checkCall_1 q2861 ?_
  refine hr_iload_n hC dX21_checkCall_4 rfl ?_
  obtain ⟨c1, h⟩ := hk_ok h
  refine hs_iald hC A23_19 c1 dX21_checkCall_5 ?_
  refine hr_istore_n hC dX21_checkCall_6 (by decide) ?_
  refine hr_aload_n hC dX21_checkCall_7 rfl ?_
  refine hr_iload_n hC dX21_checkCall_8 rfl ?_
  obtain ⟨r2, e3, h⟩ := hx_bind h
  refine hs_callV0 hC 23 [_] _ dX21_checkCall_9 q3382 q3384 qs232 q335 q3385 np_X21 rfl OB_23 pd_X21_findOwn (Nat.le_of_ble_eq_true rfl) hd1 (okX21_findOwn l E A (d - 1) n (by omega)  e3 am) rfl ?_
  refine hr_istore_n hC dX21_checkCall_12 (by decide) ?_
  refine hr_iload_n hC dX21_checkCall_13 rfl ?_
  obtain ⟨r8, e9, h⟩ := hx_bind h
  have J10 : hc_At hc_V0 E 9 X 26 [(0, .ref (E.2.1 23)), (1, .int x1), (2, .int (gC σ 23 19 x1)), (3, .int r2)] [.int r8] σ am [] := by
    refine hr_istore hC dX21_checkCall_26 (by decide) ?_
    refine hr_aload_n hC dX21_checkCall_28 rfl ?_
    refine hr_iload_n hC dX21_checkCall_29 rfl ?_
    refine hr_iconst (v := 0) hC dX21_checkCall_30 rfl ?_
    obtain ⟨r16, e17, h⟩ := hx_bind h
    refine hs_callV0 hC 23 [_, _] _ dX21_checkCall_31 q3406 q3408 qs238 q335 q3409 np_X21 rfl OB_23 pd_X21_find (Nat.le_of_ble_eq_true rfl) hd1 (okX21_find l E A (d - 1) n (by omega)  e17 am) rfl ?_
    obtain ⟨v22, hv22, h⟩ := hl_ok h
    have J122 : ∀ w123 : Int32, (if 0 ≤ r16 then 0 else (if 0 ≤ r2 then 1 else (if r8 < 0 then 0 else 1))) = w123 → hc_At hc_V0 E 9 X 51 [(0, .ref (E.2.1 23)), (1, .int x1), (2, .int (gC σ 23 19 x1)), (3, .int r2), (4, .int r8)] [.int w123] σ am [] := by
      intro w123 hw123
      obtain rfl := hv22.trans hw123
      refine hr_istore hC dX21_checkCall_51 (by decide) ?_
      refine hr_iload hC dX21_checkCall_53 rfl ?_
      obtain ⟨r25, e26, h⟩ := hx_bind h
      have J27 : hc_At hc_V0 E 9 X 64 [(0, .ref (E.2.1 23)), (1, .int x1), (2, .int (gC σ 23 19 x1)), (3, .int r2), (4, .int r8), (5, .int v22)] [] r25 am [] := by
        refine hr_aload_n hC dX21_checkCall_64 rfl ?_
        refine hr_gA hC F23_22 rfl dX21_checkCall_65 q2864 ?_
        refine hr_iload_n hC dX21_checkCall_68 rfl ?_
        refine hr_iload_n hC dX21_checkCall_69 rfl ?_
        obtain ⟨v35, hv35, h⟩ := hl_ok h
        have J119 : ∀ w120 : Int32, (if r2 < 0 then (100 + r8) else r2) = w120 → hc_At hc_V0 E 9 X 82 [(0, .ref (E.2.1 23)), (1, .int x1), (2, .int (gC σ 23 19 x1)), (3, .int r2), (4, .int r8), (5, .int v22)] [.int w120, .int x1, .ref (am 23 22)] r25 am [] := by
          intro w120 hw120
          obtain rfl := hv35.trans hw120
          obtain ⟨c36, h⟩ := hk_ok h
          obtain ⟨σ37, hσ37, h⟩ := hl_ok h
          refine hs_iast hC A23_22 c36 dX21_checkCall_82 ?_
          rw [← hσ37]
          refine hr_iconst (v := 0) hC dX21_checkCall_83 rfl ?_
          refine hr_istore hC dX21_checkCall_84 (by decide) ?_
          refine hr_aload_n hC dX21_checkCall_86 rfl ?_
          refine hr_gA hC F23_21 rfl dX21_checkCall_87 q2863 ?_
          refine hr_iload_n hC dX21_checkCall_90 rfl ?_
          obtain ⟨c38, h⟩ := hk_ok h
          refine hs_iald hC A23_21 c38 dX21_checkCall_91 ?_
          refine hr_istore hC dX21_checkCall_92 (by decide) ?_
          obtain ⟨r56, e57, h⟩ := hx_bind h
          refine hr_sub _ rfl (ll_X21_checkCall_94 n k0 rec hD hem IH hC n _ _ _ _ _ _ _ _ am e57 ?_)
          refine hr_iload hC dX21_checkCall_143 rfl ?_
          refine hr_if_ne (x := _) hC 150 dX21_checkCall_145 (by decide) (fun c62 => ?_) (fun c62 => ?_)
          · rw [if_neg c62] at h
            refine hr_iload hC dX21_checkCall_150 rfl ?_
            obtain ⟨r65, e66, h⟩ := hx_bind h
            have J67 : hc_At hc_V0 E 9 X 207 [(0, .ref (E.2.1 23)), (3, .int r2), (4, .int r8)] [] r65 am [] := by
              refine hr_iload_n hC dX21_checkCall_207 rfl ?_
              obtain ⟨r101, e102, h⟩ := hx_bind h
              have J103 : hc_At hc_V0 E 9 X 255 [] [.int r101] r65 am [] := by
                refine hr_istore hC dX21_checkCall_255 (by decide) ?_
                refine hr_iload hC dX21_checkCall_257 rfl ?_
                obtain ⟨v115, hv115, h⟩ := hl_ok h
                have J116 : ∀ w117 : Int32, (if r101 = 0 then 1 else 4) = w117 → hc_At hc_V0 E 9 X 267 [] [.int w117] r65 am [] := by
                  intro w117 hw117
                  obtain rfl := hv115.trans hw117
                  obtain rfl := Option.some.inj h
                  exact hr_iret hC dX21_checkCall_267
                refine hr_if_eq (x := _) hC 266 dX21_checkCall_259 (by decide) (fun c118 => ?_) (fun c118 => ?_)
                · refine hr_iconst (v := 1) hC dX21_checkCall_266 rfl ?_
                  exact hr_sub _ rfl (J116 _ (by first | (rw [if_pos c118]; done) | (simp only [if_pos c118]; done) | rfl))
                · refine hr_iconst (v := 4) hC dX21_checkCall_262 rfl ?_
                  refine hr_goto hC 267 dX21_checkCall_263 (by decide) ?_
                  exact hr_sub _ rfl (J116 _ (by first | (rw [if_neg c118]; done) | (simp only [if_neg c118]; done) | rfl))
              clear h
              have h := e102
              refine hr_if_lt (x := _) hC 234 dX21_checkCall_208 (by decide) (fun c100 => ?_) (fun c100 => ?_)
              · rw [if_pos c100] at h
                refine hr_aload_n hC dX21_checkCall_234 rfl ?_
                refine hr_gA hC F23_26 rfl dX21_checkCall_235 q2868 ?_
                refine hr_aload_n hC dX21_checkCall_238 rfl ?_
                refine hr_gA hC F23_44 rfl dX21_checkCall_239 q2885 ?_
                refine hr_iload hC dX21_checkCall_242 rfl ?_
                obtain ⟨c105, h⟩ := hk_ok h
                refine hs_iald hC A23_44 c105 dX21_checkCall_244 ?_
                obtain ⟨c106, h⟩ := hk_ok h
                refine hs_iald hC A23_26 c106 dX21_checkCall_245 ?_
                refine hr_iconst (v := 2) hC dX21_checkCall_246 rfl ?_
                refine hr_icmp_ne (x := _) hC 254 dX21_checkCall_247 (by decide) (fun c108 => ?_) (fun c108 => ?_)
                · rw [if_neg c108] at h
                  refine hr_iconst (v := 0) hC dX21_checkCall_254 rfl ?_
                  obtain rfl := Option.some.inj h
                  exact hr_sub _ rfl (J103)
                · rw [if_pos c108] at h
                  refine hr_iconst (v := 1) hC dX21_checkCall_250 rfl ?_
                  refine hr_goto hC 255 dX21_checkCall_251 (by decide) ?_
                  obtain rfl := Option.some.inj h
                  exact hr_sub _ rfl (J103)
              · rw [if_neg c100] at h
                refine hr_aload_n hC dX21_checkCall_211 rfl ?_
                refine hr_gA hC F23_3 rfl dX21_checkCall_212 q2845 ?_
                refine hr_iload_n hC dX21_checkCall_215 rfl ?_
                obtain ⟨c109, h⟩ := hk_ok h
                refine hs_sald hC A23_3 c109 dX21_checkCall_216 ?_
                refine hr_iconst (v := 0) hC dX21_checkCall_217 rfl ?_
                obtain ⟨c110, h⟩ := hk_ok h
                refine hr_schar hC c110 dX21_checkCall_218 q3150 hd8 (Nat.le_of_ble_eq_true rfl) ?_
                refine hr_bipush (v := 118) hC dX21_checkCall_221 rfl ?_
                refine hr_icmp_ne (x := _) hC 230 dX21_checkCall_223 (by decide) (fun c112 => ?_) (fun c112 => ?_)
                · rw [if_neg c112] at h
                  refine hr_iconst (v := 0) hC dX21_checkCall_230 rfl ?_
                  refine hr_goto hC 255 dX21_checkCall_231 (by decide) ?_
                  obtain rfl := Option.some.inj h
                  exact hr_sub _ rfl (J103)
                · rw [if_pos c112] at h
                  refine hr_iconst (v := 1) hC dX21_checkCall_226 rfl ?_
                  refine hr_goto hC 255 dX21_checkCall_227 (by decide) ?_
                  obtain rfl := Option.some.inj h
                  exact hr_sub _ rfl (J103)
            clear h
            have h := e66
            refine hr_if_ne (x := _) hC 171 dX21_checkCall_152 (by decide) (fun c64 => ?_) (fun c64 => ?_)
            · rw [if_neg c64] at h
              refine hr_aload_n hC dX21_checkCall_171 rfl ?_
              refine hr_iload hC dX21_checkCall_172 rfl ?_
              refine hr_iload_n hC dX21_checkCall_174 rfl ?_
              refine hr_iload hC dX21_checkCall_175 rfl ?_
              refine hr_iconst (v := 1) hC dX21_checkCall_177 rfl ?_
              refine hr_isub hC dX21_checkCall_178 ?_
              obtain ⟨r69, e70, h⟩ := hx_bind h
              refine hs_callV0 hC 23 [_, _, _] _ dX21_checkCall_179 q3454 q3456 qs250 q335 q3457 np_X21 rfl OB_23 pd_X21_taken (Nat.le_of_ble_eq_true rfl) hd1 (okX21_taken l E A (d - 1) n (by omega)  e70 am) rfl ?_
              refine hr_bipush (v := 32) hC dX21_checkCall_182 rfl ?_
              refine hr_icmp_eq (x := _) hC 201 dX21_checkCall_184 (by decide) (fun c74 => ?_) (fun c74 => ?_)
              · rw [if_pos c74] at h
                refine hr_aload_n hC dX21_checkCall_201 rfl ?_
                refine hr_iconst (v := 4) hC dX21_checkCall_202 rfl ?_
                refine hr_iload_n hC dX21_checkCall_203 rfl ?_
                obtain ⟨r75, e76, h⟩ := hx_bind h
                refine hs_callV0 hC 23 [_, _] _ dX21_checkCall_204 q3398 q3400 qs236 q335 q3401 np_X21 rfl OB_23 pd_X21_bad (Nat.le_of_ble_eq_true rfl) hd1 (okX21_bad l E A (d - 1)  (by omega)  e76 am) rfl ?_
                obtain rfl := Option.some.inj h
                exact hr_sub _ rfl (J67)
              · rw [if_neg c74] at h
                refine hr_aload_n hC dX21_checkCall_187 rfl ?_
                refine hr_iload hC dX21_checkCall_188 rfl ?_
                refine hr_iload_n hC dX21_checkCall_190 rfl ?_
                refine hr_iload hC dX21_checkCall_191 rfl ?_
                obtain ⟨r79, e80, h⟩ := hx_bind h
                refine hs_callV0 hC 23 [_, _, _] _ dX21_checkCall_193 q3454 q3456 qs250 q335 q3457 np_X21 rfl OB_23 pd_X21_taken (Nat.le_of_ble_eq_true rfl) hd1 (okX21_taken l E A (d - 1) n (by omega)  e80 am) rfl ?_
                refine hr_bipush (v := 32) hC dX21_checkCall_196 rfl ?_
                refine hr_icmp_eq (x := _) hC 207 dX21_checkCall_198 (by decide) (fun c84 => ?_) (fun c84 => ?_)
                · rw [if_pos c84] at h
                  obtain rfl := Option.some.inj h
                  exact hr_sub _ rfl (J67)
                · rw [if_neg c84] at h
                  refine hr_aload_n hC dX21_checkCall_201 rfl ?_
                  refine hr_iconst (v := 4) hC dX21_checkCall_202 rfl ?_
                  refine hr_iload_n hC dX21_checkCall_203 rfl ?_
                  obtain ⟨r85, e86, h⟩ := hx_bind h
                  refine hs_callV0 hC 23 [_, _] _ dX21_checkCall_204 q3398 q3400 qs236 q335 q3401 np_X21 rfl OB_23 pd_X21_bad (Nat.le_of_ble_eq_true rfl) hd1 (okX21_bad l E A (d - 1)  (by omega)  e86 am) rfl ?_
                  obtain rfl := Option.some.inj h
                  exact hr_sub _ rfl (J67)
            · rw [if_pos c64] at h
              refine hr_aload_n hC dX21_checkCall_155 rfl ?_
              refine hr_iload hC dX21_checkCall_156 rfl ?_
              refine hr_iload_n hC dX21_checkCall_158 rfl ?_
              refine hr_iconst (v := 0) hC dX21_checkCall_159 rfl ?_
              obtain ⟨r89, e90, h⟩ := hx_bind h
              refine hs_callV0 hC 23 [_, _, _] _ dX21_checkCall_160 q3454 q3456 qs250 q335 q3457 np_X21 rfl OB_23 pd_X21_taken (Nat.le_of_ble_eq_true rfl) hd1 (okX21_taken l E A (d - 1) n (by omega)  e90 am) rfl ?_
              refine hr_bipush (v := 32) hC dX21_checkCall_163 rfl ?_
              refine hr_icmp_eq (x := _) hC 207 dX21_checkCall_165 (by decide) (fun c94 => ?_) (fun c94 => ?_)
              · rw [if_pos c94] at h
                obtain rfl := Option.some.inj h
                exact hr_sub _ rfl (J67)
              · rw [if_neg c94] at h
                refine hr_goto hC 201 dX21_checkCall_168 (by decide) ?_
                refine hr_aload_n hC dX21_checkCall_201 rfl ?_
                refine hr_iconst (v := 4) hC dX21_checkCall_202 rfl ?_
                refine hr_iload_n hC dX21_checkCall_203 rfl ?_
                obtain ⟨r95, e96, h⟩ := hx_bind h
                refine hs_callV0 hC 23 [_, _] _ dX21_checkCall_204 q3398 q3400 qs236 q335 q3401 np_X21 rfl OB_23 pd_X21_bad (Nat.le_of_ble_eq_true rfl) hd1 (okX21_bad l E A (d - 1)  (by omega)  e96 am) rfl ?_
                obtain rfl := Option.some.inj h
                exact hr_sub _ rfl (J67)
          · rw [if_pos c62] at h
            refine hr_iconst (v := 0) hC dX21_checkCall_148 rfl ?_
            obtain rfl := Option.some.inj h
            exact hr_iret hC dX21_checkCall_149
        refine hr_if_lt (x := _) hC 77 dX21_checkCall_70 (by decide) (fun c121 => ?_) (fun c121 => ?_)
        · refine hr_bipush (v := 100) hC dX21_checkCall_77 rfl ?_
          refine hr_iload hC dX21_checkCall_79 rfl ?_
          refine hr_iadd hC dX21_checkCall_81 ?_
          exact hr_sub _ rfl (J119 _ (by first | (rw [if_pos c121]; done) | (simp only [if_pos c121]; done) | rfl))
        · refine hr_iload_n hC dX21_checkCall_73 rfl ?_
          refine hr_goto hC 82 dX21_checkCall_74 (by decide) ?_
          exact hr_sub _ rfl (J119 _ (by first | (rw [if_neg c121]; done) | (simp only [if_neg c121]; done) | rfl))
      clear h
      have h := e26
      refine hr_if_ne (x := _) hC 64 dX21_checkCall_55 (by decide) (fun c24 => ?_) (fun c24 => ?_)
      · rw [if_neg c24] at h
        obtain rfl := Option.some.inj h
        exact hr_sub _ rfl (J27)
      · rw [if_pos c24] at h
        refine hr_aload_n hC dX21_checkCall_58 rfl ?_
        refine hr_iconst (v := 2) hC dX21_checkCall_59 rfl ?_
        refine hr_iload_n hC dX21_checkCall_60 rfl ?_
        obtain ⟨r29, e30, h⟩ := hx_bind h
        refine hs_callV0 hC 23 [_, _] _ dX21_checkCall_61 q3398 q3400 qs236 q335 q3401 np_X21 rfl OB_23 pd_X21_bad (Nat.le_of_ble_eq_true rfl) hd1 (okX21_bad l E A (d - 1)  (by omega)  e30 am) rfl ?_
        obtain rfl := Option.some.inj h
        exact hr_sub _ rfl (J27)
    refine hr_if_ge (x := _) hC 50 dX21_checkCall_34 (by decide) (fun c124 => ?_) (fun c124 => ?_)
    · refine hr_iconst (v := 0) hC dX21_checkCall_50 rfl ?_
      exact hr_sub _ rfl (J122 _ (by first | (rw [if_pos c124]; done) | (simp only [if_pos c124]; done) | rfl))
    · refine hr_iload_n hC dX21_checkCall_37 rfl ?_
      refine hr_if_ge (x := _) hC 46 dX21_checkCall_38 (by decide) (fun c125 => ?_) (fun c125 => ?_)
      · refine hr_iconst (v := 1) hC dX21_checkCall_46 rfl ?_
        refine hr_goto hC 51 dX21_checkCall_47 (by decide) ?_
        exact hr_sub _ rfl (J122 _ (by first | (rw [if_neg c124, if_pos c125]; done) | (simp only [if_neg c124, if_pos c125]; done) | rfl))
      · refine hr_iload hC dX21_checkCall_41 rfl ?_
        refine hr_if_lt (x := _) hC 50 dX21_checkCall_43 (by decide) (fun c126 => ?_) (fun c126 => ?_)
        · refine hr_iconst (v := 0) hC dX21_checkCall_50 rfl ?_
          exact hr_sub _ rfl (J122 _ (by first | (rw [if_neg c124, if_neg c125, if_pos c126]; done) | (simp only [if_neg c124, if_neg c125, if_pos c126]; done) | rfl))
        · refine hr_iconst (v := 1) hC dX21_checkCall_46 rfl ?_
          refine hr_goto hC 51 dX21_checkCall_47 (by decide) ?_
          exact hr_sub _ rfl (J122 _ (by first | (rw [if_neg c124, if_neg c125, if_neg c126]; done) | (simp only [if_neg c124, if_neg c125, if_neg c126]; done) | rfl))
  clear h
  have h := e9
  refine hr_if_lt (x := _) hC 21 dX21_checkCall_14 (by decide) (fun c7 => ?_) (fun c7 => ?_)
  · rw [if_pos c7] at h
    refine hr_aload_n hC dX21_checkCall_21 rfl ?_
    refine hr_iload_n hC dX21_checkCall_22 rfl ?_
    obtain ⟨r12, e13, h⟩ := hx_bind h
    refine hs_callV0 hC 23 [_] _ dX21_checkCall_23 q3390 q3392 qs234 q335 q3393 np_X21 rfl OB_23 pd_X21_findFunction (Nat.le_of_ble_eq_true rfl) hd1 (okX21_findFunction l E A (d - 1) n (by omega)  e13 am) rfl ?_
    obtain rfl := Option.some.inj h
    exact hr_sub _ rfl (J10)
  · rw [if_neg c7] at h
    refine hr_iconst (v := (-1)) hC dX21_checkCall_17 rfl ?_
    refine hr_goto hC 26 dX21_checkCall_18 (by decide) ?_
    obtain rfl := Option.some.inj h
    exact hr_sub _ rfl (J10)
/-- HomeCompilerModel.checkArgument(II)V -/
def bd_X21_checkArgument (n : Nat) (k0 : Nat) (rec : Nat → List Int32 → hc_St → Option (Int32 × hc_St)) (x1 : Int32) (x2 : Int32) (σ : hc_St) : Option (Int32 × hc_St) := Option.bind (α := hc_St) (if x2 = 105 then (Option.bind (rec 0 [x1, 1] σ) fun r40 => some (r40.2)) else (if x2 = 107 then (Option.bind (rec 3 [x1] σ) fun r36 => some (r36.2)) else (Option.bind (rec 0 [x1, 0] σ) fun r9 => hl (α := Int32) ((if x2 = 32 then 1 else (if r9.1 = 0 then 1 else (if r9.1 = 2 then (if x2 = 99 then (if r9.1 = 3 then (if x2 = 115 then 0 else 1) else 0) else 1) else (if r9.1 = 3 then (if x2 = 115 then 0 else 1) else 0))))) fun v15 => if v15 = 0 then (Option.bind (fm_X21_first x1 r9.2) fun r18 => Option.bind (fm_X21_bad 3 r18 r9.2) fun r22 => some (r22)) else (some (r9.2))))) fun r3 => some (0, r3)
set_option maxRecDepth 20000 in
set_option maxHeartbeats 4000000 in
theorem okbX21_checkArgument (l : Launch) (E : hc_E) (A : Nat → Prop) (d : Nat) {kk : Nat} (n : Nat) (k0 : Nat) (rec : Nat → List Int32 → hc_St → Option (Int32 × hc_St)) (hD : kk + 1 * k0 + 14 ≤ d) (IH : ∀ (w : Nat) (a : List Int32) (σ : hc_St) (r : (Int32 × hc_St)), rec w a σ = some r → ∀ am, okg_X21_check l E A (d - 1) am w a σ r) {x1 : Int32} {x2 : Int32} {σ : hc_St} {r : (Int32 × hc_St)} (h : bd_X21_checkArgument n k0 rec x1 x2 σ = some r) (am : Nat → Nat → Nat) : hc_M l hc_V0 yX21_checkArgument (ws_ yX21_checkArgument cX21_checkArgument 5 none) d E A [.ref (E.2.1 23), .int x1, .int x2] am [] σ (.inl (none)) r.2 := by
  have hd1 : 1 ≤ d := by omega
  have hd8 : 9 ≤ d := by omega
  have hd12 : 12 ≤ d := by omega
  refine hc_enter2 (own := RX21) [(0, .ref (E.2.1 23)), (1, .int x1), (2, .int x2)] pl_X21 rfl hc_V0_st hc_G0_nd rfl (Nat.le_of_ble_eq_true rfl) (fun X hC hem => ?_)
  unfold bd_X21_checkArgument at h
  refine hr_iload_n hC dX21_checkArgument_0 rfl ?_
  refine hr_bipush (v := 105) hC dX21_checkArgument_1 rfl ?_
  obtain ⟨r3, e4, h⟩ := hx_bind h
  have J5 : hc_At hc_V0 E 5 X 92 [] [] r3 am [] := by
    obtain rfl := Option.some.inj h
    exact hr_vret hC dX21_checkArgument_92
  clear h
  have h := e4
  refine hr_icmp_ne (x := _) hC 16 dX21_checkArgument_3 (by decide) (fun c2 => ?_) (fun c2 => ?_)
  · rw [if_neg c2] at h
    refine hr_iload_n hC dX21_checkArgument_16 rfl ?_
    refine hr_bipush (v := 107) hC dX21_checkArgument_17 rfl ?_
    refine hr_icmp_ne (x := _) hC 31 dX21_checkArgument_19 (by decide) (fun c8 => ?_) (fun c8 => ?_)
    · rw [if_neg c8] at h
      refine hr_aload_n hC dX21_checkArgument_31 rfl ?_
      refine hr_iload_n hC dX21_checkArgument_32 rfl ?_
      refine hr_iconst (v := 0) hC dX21_checkArgument_33 rfl ?_
      obtain ⟨r9, e10, h⟩ := hx_bind h
      refine hs_callV0 hC 23 [_, _] _ dX21_checkArgument_34 q3442 q3444 qs247 q335 q3445 np_X21 rfl OB_23 pd_X21_check (Nat.le_of_ble_eq_true rfl) hd1 (IH _ _ _ _ e10 am) rfl ?_
      refine hr_istore_n hC dX21_checkArgument_37 (by decide) ?_
      refine hr_iload_n hC dX21_checkArgument_38 rfl ?_
      refine hr_bipush (v := 32) hC dX21_checkArgument_39 rfl ?_
      obtain ⟨v15, hv15, h⟩ := hl_ok h
      have J26 : ∀ w27 : Int32, (if x2 = 32 then 1 else (if r9.1 = 0 then 1 else (if r9.1 = 2 then (if x2 = 99 then (if r9.1 = 3 then (if x2 = 115 then 0 else 1) else 0) else 1) else (if r9.1 = 3 then (if x2 = 115 then 0 else 1) else 0)))) = w27 → hc_At hc_V0 E 5 X 75 [(0, .ref (E.2.1 23)), (1, .int x1)] [.int w27] r9.2 am [] := by
        intro w27 hw27
        obtain rfl := hv15.trans hw27
        refine hr_istore hC dX21_checkArgument_75 (by decide) ?_
        refine hr_iload hC dX21_checkArgument_77 rfl ?_
        refine hr_if_ne (x := _) hC 92 dX21_checkArgument_79 (by decide) (fun c17 => ?_) (fun c17 => ?_)
        · rw [if_neg c17] at h
          obtain rfl := Option.some.inj h
          exact hr_sub _ rfl (J5)
        · rw [if_pos c17] at h
          refine hr_aload_n hC dX21_checkArgument_82 rfl ?_
          refine hr_iconst (v := 3) hC dX21_checkArgument_83 rfl ?_
          refine hr_aload_n hC dX21_checkArgument_84 rfl ?_
          refine hr_iload_n hC dX21_checkArgument_85 rfl ?_
          obtain ⟨r18, e19, h⟩ := hx_bind h
          refine hs_callV0 hC 23 [_] _ dX21_checkArgument_86 q3474 q3476 qs255 q335 q3477 np_X21 rfl OB_23 pd_X21_first (Nat.le_of_ble_eq_true rfl) hd1 (okX21_first l E A (d - 1)  (by omega)  e19 am) rfl ?_
          obtain ⟨r22, e23, h⟩ := hx_bind h
          refine hs_callV0 hC 23 [_, _] _ dX21_checkArgument_89 q3398 q3400 qs236 q335 q3401 np_X21 rfl OB_23 pd_X21_bad (Nat.le_of_ble_eq_true rfl) hd1 (okX21_bad l E A (d - 1)  (by omega)  e23 am) rfl ?_
          obtain rfl := Option.some.inj h
          exact hr_sub _ rfl (J5)
      refine hr_icmp_eq (x := _) hC 70 dX21_checkArgument_41 (by decide) (fun c28 => ?_) (fun c28 => ?_)
      · refine hr_iconst (v := 1) hC dX21_checkArgument_70 rfl ?_
        refine hr_goto hC 75 dX21_checkArgument_71 (by decide) ?_
        exact hr_sub _ rfl (J26 _ (by first | (rw [if_pos c28]; done) | (simp only [if_pos c28]; done) | rfl))
      · refine hr_iload_n hC dX21_checkArgument_44 rfl ?_
        refine hr_if_eq (x := _) hC 70 dX21_checkArgument_45 (by decide) (fun c29 => ?_) (fun c29 => ?_)
        · refine hr_iconst (v := 1) hC dX21_checkArgument_70 rfl ?_
          refine hr_goto hC 75 dX21_checkArgument_71 (by decide) ?_
          exact hr_sub _ rfl (J26 _ (by first | (rw [if_neg c28, if_pos c29]; done) | (simp only [if_neg c28, if_pos c29]; done) | rfl))
        · refine hr_iload_n hC dX21_checkArgument_48 rfl ?_
          refine hr_iconst (v := 2) hC dX21_checkArgument_49 rfl ?_
          refine hr_icmp_ne (x := _) hC 59 dX21_checkArgument_50 (by decide) (fun c30 => ?_) (fun c30 => ?_)
          · refine hr_iload_n hC dX21_checkArgument_59 rfl ?_
            refine hr_iconst (v := 3) hC dX21_checkArgument_60 rfl ?_
            refine hr_icmp_ne (x := _) hC 74 dX21_checkArgument_61 (by decide) (fun c31 => ?_) (fun c31 => ?_)
            · refine hr_iconst (v := 0) hC dX21_checkArgument_74 rfl ?_
              exact hr_sub _ rfl (J26 _ (by first | (rw [if_neg c28, if_neg c29, if_neg c30, if_neg c31]; done) | (simp only [if_neg c28, if_neg c29, if_neg c30, if_neg c31]; done) | rfl))
            · refine hr_iload_n hC dX21_checkArgument_64 rfl ?_
              refine hr_bipush (v := 115) hC dX21_checkArgument_65 rfl ?_
              refine hr_icmp_eq (x := _) hC 74 dX21_checkArgument_67 (by decide) (fun c32 => ?_) (fun c32 => ?_)
              · refine hr_iconst (v := 0) hC dX21_checkArgument_74 rfl ?_
                exact hr_sub _ rfl (J26 _ (by first | (rw [if_neg c28, if_neg c29, if_neg c30, if_pos c31, if_pos c32]; done) | (simp only [if_neg c28, if_neg c29, if_neg c30, if_pos c31, if_pos c32]; done) | rfl))
              · refine hr_iconst (v := 1) hC dX21_checkArgument_70 rfl ?_
                refine hr_goto hC 75 dX21_checkArgument_71 (by decide) ?_
                exact hr_sub _ rfl (J26 _ (by first | (rw [if_neg c28, if_neg c29, if_neg c30, if_pos c31, if_neg c32]; done) | (simp only [if_neg c28, if_neg c29, if_neg c30, if_pos c31, if_neg c32]; done) | rfl))
          · refine hr_iload_n hC dX21_checkArgument_53 rfl ?_
            refine hr_bipush (v := 99) hC dX21_checkArgument_54 rfl ?_
            refine hr_icmp_ne (x := _) hC 70 dX21_checkArgument_56 (by decide) (fun c33 => ?_) (fun c33 => ?_)
            · refine hr_iconst (v := 1) hC dX21_checkArgument_70 rfl ?_
              refine hr_goto hC 75 dX21_checkArgument_71 (by decide) ?_
              exact hr_sub _ rfl (J26 _ (by first | (rw [if_neg c28, if_neg c29, if_pos c30, if_neg c33]; done) | (simp only [if_neg c28, if_neg c29, if_pos c30, if_neg c33]; done) | rfl))
            · refine hr_iload_n hC dX21_checkArgument_59 rfl ?_
              refine hr_iconst (v := 3) hC dX21_checkArgument_60 rfl ?_
              refine hr_icmp_ne (x := _) hC 74 dX21_checkArgument_61 (by decide) (fun c34 => ?_) (fun c34 => ?_)
              · refine hr_iconst (v := 0) hC dX21_checkArgument_74 rfl ?_
                exact hr_sub _ rfl (J26 _ (by first | (rw [if_neg c28, if_neg c29, if_pos c30, if_pos c33, if_neg c34]; done) | (simp only [if_neg c28, if_neg c29, if_pos c30, if_pos c33, if_neg c34]; done) | rfl))
              · refine hr_iload_n hC dX21_checkArgument_64 rfl ?_
                refine hr_bipush (v := 115) hC dX21_checkArgument_65 rfl ?_
                refine hr_icmp_eq (x := _) hC 74 dX21_checkArgument_67 (by decide) (fun c35 => ?_) (fun c35 => ?_)
                · refine hr_iconst (v := 0) hC dX21_checkArgument_74 rfl ?_
                  exact hr_sub _ rfl (J26 _ (by first | (rw [if_neg c28, if_neg c29, if_pos c30, if_pos c33, if_pos c34, if_pos c35]; done) | (simp only [if_neg c28, if_neg c29, if_pos c30, if_pos c33, if_pos c34, if_pos c35]; done) | rfl))
                · refine hr_iconst (v := 1) hC dX21_checkArgument_70 rfl ?_
                  refine hr_goto hC 75 dX21_checkArgument_71 (by decide) ?_
                  exact hr_sub _ rfl (J26 _ (by first | (rw [if_neg c28, if_neg c29, if_pos c30, if_pos c33, if_pos c34, if_neg c35]; done) | (simp only [if_neg c28, if_neg c29, if_pos c30, if_pos c33, if_pos c34, if_neg c35]; done) | rfl))
    · rw [if_pos c8] at h
      refine hr_aload_n hC dX21_checkArgument_22 rfl ?_
      refine hr_iload_n hC dX21_checkArgument_23 rfl ?_
      obtain ⟨r36, e37, h⟩ := hx_bind h
      refine hs_callV0 hC 23 [_] _ dX21_checkArgument_24 q3462 q3464 qs252 q335 q3465 np_X21 rfl OB_23 pd_X21_checkConstant (Nat.le_of_ble_eq_true rfl) hd1 (IH _ _ _ _ e37 am) rfl ?_
      refine hr_pop hC dX21_checkArgument_27 rfl ?_
      refine hr_goto hC 92 dX21_checkArgument_28 (by decide) ?_
      obtain rfl := Option.some.inj h
      exact hr_sub _ rfl (J5)
  · rw [if_pos c2] at h
    refine hr_aload_n hC dX21_checkArgument_6 rfl ?_
    refine hr_iload_n hC dX21_checkArgument_7 rfl ?_
    refine hr_iconst (v := 1) hC dX21_checkArgument_8 rfl ?_
    obtain ⟨r40, e41, h⟩ := hx_bind h
    refine hs_callV0 hC 23 [_, _] _ dX21_checkArgument_9 q3442 q3444 qs247 q335 q3445 np_X21 rfl OB_23 pd_X21_check (Nat.le_of_ble_eq_true rfl) hd1 (IH _ _ _ _ e41 am) rfl ?_
    refine hr_pop hC dX21_checkArgument_12 rfl ?_
    refine hr_goto hC 92 dX21_checkArgument_13 (by decide) ?_
    obtain rfl := Option.some.inj h
    exact hr_sub _ rfl (J5)
/-- HomeCompilerModel.checkConstant(I)Z -/
def bd_X21_checkConstant (n : Nat) (k0 : Nat) (rec : Nat → List Int32 → hc_St → Option (Int32 × hc_St)) (x1 : Int32) (σ : hc_St) : Option (Int32 × hc_St) := hl (pI σ 23 51 0) fun σ1 => hl (pI σ1 23 52 0) fun σ2 => Option.bind (rec 4 [x1] σ2) fun r3 => Option.bind (α := hc_St) (if (gI r3.2 23 51) = 0 then (if (gI r3.2 23 52) = 0 then (Option.bind (fm_X21_reckon n k0 x1 r3.2) fun r15 => hl (pI r15.2 23 62 r15.1) fun σ19 => hk (inb x1 (gL σ19 23 24)) <| hl (pC σ19 23 24 x1 ((gI σ19 23 62))) fun σ21 => some (σ21)) else (some (r3.2))) else (some (r3.2))) fun r9 => Option.bind (α := hc_St) (if (gI r9 23 51) = 0 then (some (r9)) else (Option.bind (fm_X21_first x1 r9) fun r28 => Option.bind (fm_X21_bad 7 r28 r9) fun r32 => some (r32))) fun r24 => hl (α := Int32) ((if (gI r24 23 51) = 0 then (if (gI r24 23 52) = 0 then 1 else 0) else 0)) fun v38 => hk (hb01 ((gI σ 23 51))) <| hl (pI r24 23 51 ((gI σ 23 51))) fun σ39 => hk (hb01 ((gI σ 23 52))) <| hl (pI σ39 23 52 ((gI σ 23 52))) fun σ41 => hk (hb01 v38) <| some (v38, σ41)
set_option maxRecDepth 20000 in
set_option maxHeartbeats 4000000 in
theorem okbX21_checkConstant (l : Launch) (E : hc_E) (A : Nat → Prop) (d : Nat) {kk : Nat} (n : Nat) (k0 : Nat) (rec : Nat → List Int32 → hc_St → Option (Int32 × hc_St)) (hD : kk + 1 * k0 + 14 ≤ d) (IH : ∀ (w : Nat) (a : List Int32) (σ : hc_St) (r : (Int32 × hc_St)), rec w a σ = some r → ∀ am, okg_X21_check l E A (d - 1) am w a σ r) {x1 : Int32} {σ : hc_St} {r : (Int32 × hc_St)} (h : bd_X21_checkConstant n k0 rec x1 σ = some r) (am : Nat → Nat → Nat) : hc_M l hc_V0 yX21_checkConstant (ws_ yX21_checkConstant cX21_checkConstant 5 (some .boolean)) d E A [.ref (E.2.1 23), .int x1] am [] σ (.inl (some (.int r.1))) r.2 := by
  have hd1 : 1 ≤ d := by omega
  have hd8 : 9 ≤ d := by omega
  have hd12 : 12 ≤ d := by omega
  refine hc_enter2 (own := RX21) [(0, .ref (E.2.1 23)), (1, .int x1)] pl_X21 rfl hc_V0_st hc_G0_nd rfl (Nat.le_of_ble_eq_true rfl) (fun X hC hem => ?_)
  unfold bd_X21_checkConstant at h
  refine hr_aload_n hC dX21_checkConstant_0 rfl ?_
  refine hr_gI hC F23_51 dX21_checkConstant_1 q2892 ?_
  refine hr_istore_n hC dX21_checkConstant_4 (by decide) ?_
  refine hr_aload_n hC dX21_checkConstant_5 rfl ?_
  refine hr_gI hC F23_52 dX21_checkConstant_6 q2893 ?_
  refine hr_istore_n hC dX21_checkConstant_9 (by decide) ?_
  refine hr_aload_n hC dX21_checkConstant_10 rfl ?_
  refine hr_iconst (v := 0) hC dX21_checkConstant_11 rfl ?_
  obtain ⟨σ1, hσ1, h⟩ := hl_ok h
  refine hr_pZ hC F23_51 PX21_51 (by decide) dX21_checkConstant_12 q2892 ?_
  rw [← hσ1]
  refine hr_aload_n hC dX21_checkConstant_15 rfl ?_
  refine hr_iconst (v := 0) hC dX21_checkConstant_16 rfl ?_
  obtain ⟨σ2, hσ2, h⟩ := hl_ok h
  refine hr_pZ hC F23_52 PX21_52 (by decide) dX21_checkConstant_17 q2893 ?_
  rw [← hσ2]
  refine hr_aload_n hC dX21_checkConstant_20 rfl ?_
  refine hr_iload_n hC dX21_checkConstant_21 rfl ?_
  obtain ⟨r3, e4, h⟩ := hx_bind h
  refine hs_callV0 hC 23 [_] _ dX21_checkConstant_22 q3466 q3468 qs253 q335 q3469 np_X21 rfl OB_23 pd_X21_meet (Nat.le_of_ble_eq_true rfl) hd1 (IH _ _ _ _ e4 am) rfl ?_
  refine hr_aload_n hC dX21_checkConstant_25 rfl ?_
  refine hr_gI hC F23_51 dX21_checkConstant_26 q2892 ?_
  obtain ⟨r9, e10, h⟩ := hx_bind h
  have J11 : hc_At hc_V0 E 5 X 58 [(0, .ref (E.2.1 23)), (1, .int x1), (2, .int (gI σ 23 51)), (3, .int (gI σ 23 52))] [] r9 am [] := by
    refine hr_aload_n hC dX21_checkConstant_58 rfl ?_
    refine hr_gI hC F23_51 dX21_checkConstant_59 q2892 ?_
    obtain ⟨r24, e25, h⟩ := hx_bind h
    have J26 : hc_At hc_V0 E 5 X 76 [(0, .ref (E.2.1 23)), (2, .int (gI σ 23 51)), (3, .int (gI σ 23 52))] [] r24 am [] := by
      refine hr_aload_n hC dX21_checkConstant_76 rfl ?_
      refine hr_gI hC F23_51 dX21_checkConstant_77 q2892 ?_
      obtain ⟨v38, hv38, h⟩ := hl_ok h
      have J44 : ∀ w45 : Int32, (if (gI r24 23 51) = 0 then (if (gI r24 23 52) = 0 then 1 else 0) else 0) = w45 → hc_At hc_V0 E 5 X 95 [(0, .ref (E.2.1 23)), (2, .int (gI σ 23 51)), (3, .int (gI σ 23 52))] [.int w45] r24 am [] := by
        intro w45 hw45
        obtain rfl := hv38.trans hw45
        refine hr_istore hC dX21_checkConstant_95 (by decide) ?_
        refine hr_aload_n hC dX21_checkConstant_97 rfl ?_
        refine hr_iload_n hC dX21_checkConstant_98 rfl ?_
        obtain ⟨c40, h⟩ := hk_ok h
        obtain ⟨σ39, hσ39, h⟩ := hl_ok h
        refine hr_pZ hC F23_51 PX21_51 c40 dX21_checkConstant_99 q2892 ?_
        rw [← hσ39]
        refine hr_aload_n hC dX21_checkConstant_102 rfl ?_
        refine hr_iload_n hC dX21_checkConstant_103 rfl ?_
        obtain ⟨c42, h⟩ := hk_ok h
        obtain ⟨σ41, hσ41, h⟩ := hl_ok h
        refine hr_pZ hC F23_52 PX21_52 c42 dX21_checkConstant_104 q2893 ?_
        rw [← hσ41]
        refine hr_iload hC dX21_checkConstant_107 rfl ?_
        obtain ⟨c43, h⟩ := hk_ok h
        obtain rfl := Option.some.inj h
        exact hr_zret hC (hb01_n c43) dX21_checkConstant_109
      refine hr_if_ne (x := _) hC 94 dX21_checkConstant_80 (by decide) (fun c46 => ?_) (fun c46 => ?_)
      · refine hr_iconst (v := 0) hC dX21_checkConstant_94 rfl ?_
        exact hr_sub _ rfl (J44 _ (by first | (rw [if_neg c46]; done) | (simp only [if_neg c46]; done) | rfl))
      · refine hr_aload_n hC dX21_checkConstant_83 rfl ?_
        refine hr_gI hC F23_52 dX21_checkConstant_84 q2893 ?_
        refine hr_if_ne (x := _) hC 94 dX21_checkConstant_87 (by decide) (fun c47 => ?_) (fun c47 => ?_)
        · refine hr_iconst (v := 0) hC dX21_checkConstant_94 rfl ?_
          exact hr_sub _ rfl (J44 _ (by first | (rw [if_pos c46, if_neg c47]; done) | (simp only [if_pos c46, if_neg c47]; done) | rfl))
        · refine hr_iconst (v := 1) hC dX21_checkConstant_90 rfl ?_
          refine hr_goto hC 95 dX21_checkConstant_91 (by decide) ?_
          exact hr_sub _ rfl (J44 _ (by first | (rw [if_pos c46, if_pos c47]; done) | (simp only [if_pos c46, if_pos c47]; done) | rfl))
    clear h
    have h := e25
    refine hr_if_eq (x := _) hC 76 dX21_checkConstant_62 (by decide) (fun c23 => ?_) (fun c23 => ?_)
    · rw [if_pos c23] at h
      obtain rfl := Option.some.inj h
      exact hr_sub _ rfl (J26)
    · rw [if_neg c23] at h
      refine hr_aload_n hC dX21_checkConstant_65 rfl ?_
      refine hr_bipush (v := 7) hC dX21_checkConstant_66 rfl ?_
      refine hr_aload_n hC dX21_checkConstant_68 rfl ?_
      refine hr_iload_n hC dX21_checkConstant_69 rfl ?_
      obtain ⟨r28, e29, h⟩ := hx_bind h
      refine hs_callV0 hC 23 [_] _ dX21_checkConstant_70 q3474 q3476 qs255 q335 q3477 np_X21 rfl OB_23 pd_X21_first (Nat.le_of_ble_eq_true rfl) hd1 (okX21_first l E A (d - 1)  (by omega)  e29 am) rfl ?_
      obtain ⟨r32, e33, h⟩ := hx_bind h
      refine hs_callV0 hC 23 [_, _] _ dX21_checkConstant_73 q3398 q3400 qs236 q335 q3401 np_X21 rfl OB_23 pd_X21_bad (Nat.le_of_ble_eq_true rfl) hd1 (okX21_bad l E A (d - 1)  (by omega)  e33 am) rfl ?_
      obtain rfl := Option.some.inj h
      exact hr_sub _ rfl (J26)
  clear h
  have h := e10
  refine hr_if_ne (x := _) hC 58 dX21_checkConstant_29 (by decide) (fun c8 => ?_) (fun c8 => ?_)
  · rw [if_neg c8] at h
    obtain rfl := Option.some.inj h
    exact hr_sub _ rfl (J11)
  · rw [if_pos c8] at h
    refine hr_aload_n hC dX21_checkConstant_32 rfl ?_
    refine hr_gI hC F23_52 dX21_checkConstant_33 q2893 ?_
    refine hr_if_ne (x := _) hC 58 dX21_checkConstant_36 (by decide) (fun c14 => ?_) (fun c14 => ?_)
    · rw [if_neg c14] at h
      obtain rfl := Option.some.inj h
      exact hr_sub _ rfl (J11)
    · rw [if_pos c14] at h
      refine hr_aload_n hC dX21_checkConstant_39 rfl ?_
      refine hr_aload_n hC dX21_checkConstant_40 rfl ?_
      refine hr_iload_n hC dX21_checkConstant_41 rfl ?_
      obtain ⟨r15, e16, h⟩ := hx_bind h
      refine hs_callV0 hC 23 [_] _ dX21_checkConstant_42 q3478 q3480 qs256 q335 q3481 np_X21 rfl OB_23 pd_X21_reckon (Nat.le_of_ble_eq_true rfl) hd1 (okX21_reckon l E A (d - 1) n k0 (by omega)  e16 am) rfl ?_
      obtain ⟨σ19, hσ19, h⟩ := hl_ok h
      refine hr_pI hC F23_62 PX21_62 dX21_checkConstant_45 q2903 ?_
      rw [← hσ19]
      refine hr_aload_n hC dX21_checkConstant_48 rfl ?_
      refine hr_gA hC F23_24 rfl dX21_checkConstant_49 q2866 ?_
      refine hr_iload_n hC dX21_checkConstant_52 rfl ?_
      refine hr_aload_n hC dX21_checkConstant_53 rfl ?_
      refine hr_gI hC F23_62 dX21_checkConstant_54 q2903 ?_
      obtain ⟨c20, h⟩ := hk_ok h
      obtain ⟨σ21, hσ21, h⟩ := hl_ok h
      refine hs_iast hC A23_24 c20 dX21_checkConstant_57 ?_
      rw [← hσ21]
      obtain rfl := Option.some.inj h
      exact hr_sub _ rfl (J11)
def lp_X21_meet_70 (n : Nat) (k0 : Nat) (rec : Nat → List Int32 → hc_St → Option (Int32 × hc_St)) : Nat → Int32 → hc_St → Option (hc_St)
  | 0, _, _ => none
  | m + 1, y2, σ => if y2 < 0 then (some (σ)) else (Option.bind (rec 4 [y2] σ) fun r32 => hk (inb y2 (gL r32.2 23 25)) <| lp_X21_meet_70 n k0 rec m ((gC r32.2 23 25 y2)) r32.2)
/-- HomeCompilerModel.meet(I)V -/
def bd_X21_meet (n : Nat) (k0 : Nat) (rec : Nat → List Int32 → hc_St → Option (Int32 × hc_St)) (x1 : Int32) (σ : hc_St) : Option (Int32 × hc_St) := hk (inb x1 (gL σ 23 18)) <| Option.bind (α := hc_St) (if (gC σ 23 18 x1).toInt8.toInt32 = 1 then (some (σ)) else if (gC σ 23 18 x1).toInt8.toInt32 = 2 then (Option.bind (fm_X21_meetName n x1 σ) fun r11 => some (r11)) else if (gC σ 23 18 x1).toInt8.toInt32 = 5 then (hk (inb x1 (gL σ 23 19)) <| hk (inb ((gC σ 23 19 x1)) (gL σ 23 12)) <| if (gC σ 23 12 ((gC σ 23 19 x1))) = 2 then (Option.bind (rec 0 [x1, 1] σ) fun r24 => hl (pI r24.2 23 51 1) fun σ28 => some (σ28)) else (hk (inb x1 (gL σ 23 21)) <| Option.bind (rec 4 [((gC σ 23 21 x1))] σ) fun r20 => some (r20.2))) else if (gC σ 23 18 x1).toInt8.toInt32 = 7 then (hk (inb x1 (gL σ 23 21)) <| Option.bind (lp_X21_meet_70 n k0 rec n ((gC σ 23 21 x1)) σ) fun r37 => some (r37)) else if (gC σ 23 18 x1).toInt8.toInt32 = 8 then (hk (inb x1 (gL σ 23 21)) <| Option.bind (rec 4 [((gC σ 23 21 x1))] σ) fun r43 => hk (inb x1 (gL r43.2 23 22)) <| Option.bind (rec 4 [((gC r43.2 23 22 x1))] r43.2) fun r48 => hk (inb x1 (gL r48.2 23 23)) <| Option.bind (rec 4 [((gC r48.2 23 23 x1))] r48.2) fun r53 => some (r53.2)) else (Option.bind (rec 0 [x1, 1] σ) fun r6 => hl (pI r6.2 23 51 1) fun σ10 => some (σ10))) fun r2 => some (0, r2)
set_option maxRecDepth 20000 in
set_option maxHeartbeats 4000000 in
theorem ll_X21_meet_70 {l : Launch} {E : hc_E} {A : Nat → Prop} {am : Nat → Nat → Nat} {d : Nat} {kk : Nat} {X : hc_X} (n : Nat) (k0 : Nat) (rec : Nat → List Int32 → hc_St → Option (Int32 × hc_St)) (hD : kk + 1 * k0 + 14 ≤ d) (hem : X.2.2.2.2.2.2.2.2.2.1.exceptionTable.isEmpty = true) (IH : ∀ (w : Nat) (a : List Int32) (σ : hc_St) (r : (Int32 × hc_St)), rec w a σ = some r → ∀ am, okg_X21_check l E A (d - 1) am w a σ r) {oc : hc_Oc} {σe : hc_St} (hC : hc_C hc_V0 E cX21_meet 3 RX21 none d oc σe (l, A, am, []) X) : ∀ (m : Nat) (σ : hc_St) (y2 : Int32) (rl : hc_St) (am1 : Nat → Nat → Nat), lp_X21_meet_70 n k0 rec m y2 σ = some rl → (hc_At hc_V0 E 3 X 89 [] [] rl am1 []) → hc_At hc_V0 E 3 X 70 [(0, .ref (E.2.1 23)), (2, .int y2)] [] σ am1 [] := by
  have hd1 : 1 ≤ d := by omega
  have hd8 : 9 ≤ d := by omega
  have hd12 : 12 ≤ d := by omega
  intro m
  induction m with
  | zero =>
    intro σ y2 rl am1 h
    cases h
  | succ m ih =>
    intro σ y2 rl am1 h JX
    rw [lp_X21_meet_70] at h
    refine hr_iload_n hC dX21_meet_70 rfl ?_
    refine hr_if_lt (x := _) hC 89 dX21_meet_71 (by decide) (fun c31 => ?_) (fun c31 => ?_)
    · rw [if_pos c31] at h
      obtain rfl := Option.some.inj h
      exact hr_sub _ rfl (JX)
    · rw [if_neg c31] at h
      refine hr_aload_n hC dX21_meet_74 rfl ?_
      refine hr_iload_n hC dX21_meet_75 rfl ?_
      obtain ⟨r32, e33, h⟩ := hx_bind h
      refine hs_callV0 hC 23 [_] _ dX21_meet_76 q3466 q3468 qs253 q335 q3469 np_X21 rfl OB_23 pd_X21_meet (Nat.le_of_ble_eq_true rfl) hd1 (IH _ _ _ _ e33 am1) rfl ?_
      refine hr_aload_n hC dX21_meet_79 rfl ?_
      refine hr_gA hC F23_25 rfl dX21_meet_80 q2867 ?_
      refine hr_iload_n hC dX21_meet_83 rfl ?_
      obtain ⟨c36, h⟩ := hk_ok h
      refine hs_iald hC A23_25 c36 dX21_meet_84 ?_
      refine hr_istore_n hC dX21_meet_85 (by decide) ?_
      refine hr_goto hC 70 dX21_meet_86 (by decide) ?_
      exact hr_sub _ rfl (ih _ _ _ am1 h JX)
set_option maxRecDepth 20000 in
set_option maxHeartbeats 4000000 in
theorem okbX21_meet (l : Launch) (E : hc_E) (A : Nat → Prop) (d : Nat) {kk : Nat} (n : Nat) (k0 : Nat) (rec : Nat → List Int32 → hc_St → Option (Int32 × hc_St)) (hD : kk + 1 * k0 + 14 ≤ d) (IH : ∀ (w : Nat) (a : List Int32) (σ : hc_St) (r : (Int32 × hc_St)), rec w a σ = some r → ∀ am, okg_X21_check l E A (d - 1) am w a σ r) {x1 : Int32} {σ : hc_St} {r : (Int32 × hc_St)} (h : bd_X21_meet n k0 rec x1 σ = some r) (am : Nat → Nat → Nat) : hc_M l hc_V0 yX21_meet (ws_ yX21_meet cX21_meet 3 none) d E A [.ref (E.2.1 23), .int x1] am [] σ (.inl (none)) r.2 := by
  have hd1 : 1 ≤ d := by omega
  have hd8 : 9 ≤ d := by omega
  have hd12 : 12 ≤ d := by omega
  refine hc_enter2 (own := RX21) [(0, .ref (E.2.1 23)), (1, .int x1)] pl_X21 rfl hc_V0_st hc_G0_nd rfl (Nat.le_of_ble_eq_true rfl) (fun X hC hem => ?_)
  unfold bd_X21_meet at h
  refine hr_aload_n hC dX21_meet_0 rfl ?_
  refine hr_gA hC F23_18 rfl dX21_meet_1 q2860 ?_
  refine hr_iload_n hC dX21_meet_4 rfl ?_
  obtain ⟨c1, h⟩ := hk_ok h
  refine hs_bald hC A23_18 c1 dX21_meet_5 ?_
  obtain ⟨r2, e3, h⟩ := hx_bind h
  have J4 : hc_At hc_V0 E 3 X 180 [] [] r2 am [] := by
    obtain rfl := Option.some.inj h
    exact hr_vret hC dX21_meet_180
  clear h
  have h := e3
  by_cases c57 : (gC σ 23 18 x1).toInt8.toInt32 = 1
  · rw [if_pos c57] at h
    refine hr_tableIn hC 52 dX21_meet_6 (by rw [c57] <;> decide) (by rw [c57] <;> decide) (by rw [c57] <;> rfl) (by decide) ?_
    refine hr_goto hC 180 dX21_meet_52 (by decide) ?_
    obtain rfl := Option.some.inj h
    exact hr_sub _ rfl (J4)
  rw [if_neg c57] at h
  by_cases c58 : (gC σ 23 18 x1).toInt8.toInt32 = 2
  · rw [if_pos c58] at h
    refine hr_tableIn hC 55 dX21_meet_6 (by rw [c58] <;> decide) (by rw [c58] <;> decide) (by rw [c58] <;> rfl) (by decide) ?_
    refine hr_aload_n hC dX21_meet_55 rfl ?_
    refine hr_iload_n hC dX21_meet_56 rfl ?_
    obtain ⟨r11, e12, h⟩ := hx_bind h
    refine hs_callV0 hC 23 [_] _ dX21_meet_57 q3470 q3472 qs254 q335 q3473 np_X21 rfl OB_23 pd_X21_meetName (Nat.le_of_ble_eq_true rfl) hd1 (okX21_meetName l E A (d - 1) n (by omega)  e12 am) rfl ?_
    refine hr_goto hC 180 dX21_meet_60 (by decide) ?_
    obtain rfl := Option.some.inj h
    exact hr_sub _ rfl (J4)
  rw [if_neg c58] at h
  by_cases c59 : (gC σ 23 18 x1).toInt8.toInt32 = 5
  · rw [if_pos c59] at h
    refine hr_tableIn hC 125 dX21_meet_6 (by rw [c59] <;> decide) (by rw [c59] <;> decide) (by rw [c59] <;> rfl) (by decide) ?_
    refine hr_aload_n hC dX21_meet_125 rfl ?_
    refine hr_gA hC F23_12 rfl dX21_meet_126 q2854 ?_
    refine hr_aload_n hC dX21_meet_129 rfl ?_
    refine hr_gA hC F23_19 rfl dX21_meet_130 q2861 ?_
    refine hr_iload_n hC dX21_meet_133 rfl ?_
    obtain ⟨c15, h⟩ := hk_ok h
    refine hs_iald hC A23_19 c15 dX21_meet_134 ?_
    obtain ⟨c16, h⟩ := hk_ok h
    refine hs_iald hC A23_12 c16 dX21_meet_135 ?_
    refine hr_iconst (v := 2) hC dX21_meet_136 rfl ?_
    refine hr_icmp_ne (x := _) hC 155 dX21_meet_137 (by decide) (fun c18 => ?_) (fun c18 => ?_)
    · rw [if_neg c18] at h
      refine hr_aload_n hC dX21_meet_155 rfl ?_
      refine hr_aload_n hC dX21_meet_156 rfl ?_
      refine hr_gA hC F23_21 rfl dX21_meet_157 q2863 ?_
      refine hr_iload_n hC dX21_meet_160 rfl ?_
      obtain ⟨c19, h⟩ := hk_ok h
      refine hs_iald hC A23_21 c19 dX21_meet_161 ?_
      obtain ⟨r20, e21, h⟩ := hx_bind h
      refine hs_callV0 hC 23 [_] _ dX21_meet_162 q3466 q3468 qs253 q335 q3469 np_X21 rfl OB_23 pd_X21_meet (Nat.le_of_ble_eq_true rfl) hd1 (IH _ _ _ _ e21 am) rfl ?_
      refine hr_goto hC 180 dX21_meet_165 (by decide) ?_
      obtain rfl := Option.some.inj h
      exact hr_sub _ rfl (J4)
    · rw [if_pos c18] at h
      refine hr_aload_n hC dX21_meet_140 rfl ?_
      refine hr_iload_n hC dX21_meet_141 rfl ?_
      refine hr_iconst (v := 1) hC dX21_meet_142 rfl ?_
      obtain ⟨r24, e25, h⟩ := hx_bind h
      refine hs_callV0 hC 23 [_, _] _ dX21_meet_143 q3442 q3444 qs247 q335 q3445 np_X21 rfl OB_23 pd_X21_check (Nat.le_of_ble_eq_true rfl) hd1 (IH _ _ _ _ e25 am) rfl ?_
      refine hr_pop hC dX21_meet_146 rfl ?_
      refine hr_aload_n hC dX21_meet_147 rfl ?_
      refine hr_iconst (v := 1) hC dX21_meet_148 rfl ?_
      obtain ⟨σ28, hσ28, h⟩ := hl_ok h
      refine hr_pZ hC F23_51 PX21_51 (by decide) dX21_meet_149 q2892 ?_
      rw [← hσ28]
      refine hr_goto hC 180 dX21_meet_152 (by decide) ?_
      obtain rfl := Option.some.inj h
      exact hr_sub _ rfl (J4)
  rw [if_neg c59] at h
  by_cases c60 : (gC σ 23 18 x1).toInt8.toInt32 = 7
  · rw [if_pos c60] at h
    refine hr_tableIn hC 63 dX21_meet_6 (by rw [c60] <;> decide) (by rw [c60] <;> decide) (by rw [c60] <;> rfl) (by decide) ?_
    refine hr_aload_n hC dX21_meet_63 rfl ?_
    refine hr_gA hC F23_21 rfl dX21_meet_64 q2863 ?_
    refine hr_iload_n hC dX21_meet_67 rfl ?_
    obtain ⟨c29, h⟩ := hk_ok h
    refine hs_iald hC A23_21 c29 dX21_meet_68 ?_
    refine hr_istore_n hC dX21_meet_69 (by decide) ?_
    obtain ⟨r37, e38, h⟩ := hx_bind h
    refine hr_sub _ rfl (ll_X21_meet_70 n k0 rec hD hem IH hC n _ _ _ am e38 ?_)
    refine hr_goto hC 180 dX21_meet_89 (by decide) ?_
    obtain rfl := Option.some.inj h
    exact hr_sub _ rfl (J4)
  rw [if_neg c60] at h
  by_cases c61 : (gC σ 23 18 x1).toInt8.toInt32 = 8
  · rw [if_pos c61] at h
    refine hr_tableIn hC 92 dX21_meet_6 (by rw [c61] <;> decide) (by rw [c61] <;> decide) (by rw [c61] <;> rfl) (by decide) ?_
    refine hr_aload_n hC dX21_meet_92 rfl ?_
    refine hr_aload_n hC dX21_meet_93 rfl ?_
    refine hr_gA hC F23_21 rfl dX21_meet_94 q2863 ?_
    refine hr_iload_n hC dX21_meet_97 rfl ?_
    obtain ⟨c42, h⟩ := hk_ok h
    refine hs_iald hC A23_21 c42 dX21_meet_98 ?_
    obtain ⟨r43, e44, h⟩ := hx_bind h
    refine hs_callV0 hC 23 [_] _ dX21_meet_99 q3466 q3468 qs253 q335 q3469 np_X21 rfl OB_23 pd_X21_meet (Nat.le_of_ble_eq_true rfl) hd1 (IH _ _ _ _ e44 am) rfl ?_
    refine hr_aload_n hC dX21_meet_102 rfl ?_
    refine hr_aload_n hC dX21_meet_103 rfl ?_
    refine hr_gA hC F23_22 rfl dX21_meet_104 q2864 ?_
    refine hr_iload_n hC dX21_meet_107 rfl ?_
    obtain ⟨c47, h⟩ := hk_ok h
    refine hs_iald hC A23_22 c47 dX21_meet_108 ?_
    obtain ⟨r48, e49, h⟩ := hx_bind h
    refine hs_callV0 hC 23 [_] _ dX21_meet_109 q3466 q3468 qs253 q335 q3469 np_X21 rfl OB_23 pd_X21_meet (Nat.le_of_ble_eq_true rfl) hd1 (IH _ _ _ _ e49 am) rfl ?_
    refine hr_aload_n hC dX21_meet_112 rfl ?_
    refine hr_aload_n hC dX21_meet_113 rfl ?_
    refine hr_gA hC F23_23 rfl dX21_meet_114 q2865 ?_
    refine hr_iload_n hC dX21_meet_117 rfl ?_
    obtain ⟨c52, h⟩ := hk_ok h
    refine hs_iald hC A23_23 c52 dX21_meet_118 ?_
    obtain ⟨r53, e54, h⟩ := hx_bind h
    refine hs_callV0 hC 23 [_] _ dX21_meet_119 q3466 q3468 qs253 q335 q3469 np_X21 rfl OB_23 pd_X21_meet (Nat.le_of_ble_eq_true rfl) hd1 (IH _ _ _ _ e54 am) rfl ?_
    refine hr_goto hC 180 dX21_meet_122 (by decide) ?_
    obtain rfl := Option.some.inj h
    exact hr_sub _ rfl (J4)
  rw [if_neg c61] at h
  refine hr_tableD hC 168 dX21_meet_6 (ks := [1, 2, 5, 7, 8]) (hc_l1 (hc_ne c57 rfl) (hc_l1 (hc_ne c58 rfl) (hc_l1 (hc_ne c59 rfl) (hc_l1 (hc_ne c60 rfl) (hc_l1 (hc_ne c61 rfl) hc_l0))))) (by decide) (by decide) (by decide) ?_
  refine hr_aload_n hC dX21_meet_168 rfl ?_
  refine hr_iload_n hC dX21_meet_169 rfl ?_
  refine hr_iconst (v := 1) hC dX21_meet_170 rfl ?_
  obtain ⟨r6, e7, h⟩ := hx_bind h
  refine hs_callV0 hC 23 [_, _] _ dX21_meet_171 q3442 q3444 qs247 q335 q3445 np_X21 rfl OB_23 pd_X21_check (Nat.le_of_ble_eq_true rfl) hd1 (IH _ _ _ _ e7 am) rfl ?_
  refine hr_pop hC dX21_meet_174 rfl ?_
  refine hr_aload_n hC dX21_meet_175 rfl ?_
  refine hr_iconst (v := 1) hC dX21_meet_176 rfl ?_
  obtain ⟨σ10, hσ10, h⟩ := hl_ok h
  refine hr_pZ hC F23_51 PX21_51 (by decide) dX21_meet_177 q2892 ?_
  rw [← hσ10]
  obtain rfl := Option.some.inj h
  exact hr_sub _ rfl (J4)
def rc_X21_check (n : Nat) (k0 : Nat) : Nat → Nat → List Int32 → hc_St → Option (Int32 × hc_St)
  | 0, _, _, _ => none
  | k + 1, w, a, σ => match w with
    | 0 => bd_X21_check n k0 (rc_X21_check n k0 k) (a.getD 0 0) (a.getD 1 0) σ
    | 1 => bd_X21_checkCall n k0 (rc_X21_check n k0 k) (a.getD 0 0) σ
    | 2 => bd_X21_checkArgument n k0 (rc_X21_check n k0 k) (a.getD 0 0) (a.getD 1 0) σ
    | 3 => bd_X21_checkConstant n k0 (rc_X21_check n k0 k) (a.getD 0 0) σ
    | 4 => bd_X21_meet n k0 (rc_X21_check n k0 k) (a.getD 0 0) σ
    | _ => none
theorem okr_X21_check (l : Launch) (E : hc_E) (A : Nat → Prop) (n : Nat) (k0 : Nat) : ∀ (k d : Nat), k + 1 * k0 + 14 ≤ d → ∀ (w : Nat) (a : List Int32) (σ : hc_St) (r : (Int32 × hc_St)), rc_X21_check n k0 k w a σ = some r → ∀ am, okg_X21_check l E A d am w a σ r
  | 0, d, _, w, a, σ, r, h, am => by cases h
  | k + 1, d, hd, w, a, σ, r, h, am => by
    have IH := okr_X21_check l E A n k0 k (d - 1) (by omega)
    match w, h with
    | 0, h => exact okbX21_check l E A d (kk := k) n k0 (rc_X21_check n k0 k) (by omega) IH h am
    | 1, h => exact okbX21_checkCall l E A d (kk := k) n k0 (rc_X21_check n k0 k) (by omega) IH h am
    | 2, h => exact okbX21_checkArgument l E A d (kk := k) n k0 (rc_X21_check n k0 k) (by omega) IH h am
    | 3, h => exact okbX21_checkConstant l E A d (kk := k) n k0 (rc_X21_check n k0 k) (by omega) IH h am
    | 4, h => exact okbX21_meet l E A d (kk := k) n k0 (rc_X21_check n k0 k) (by omega) IH h am
    | w + 5, h => trivial
def fm_X21_check (n : Nat) (k0 : Nat) (x1 : Int32) (x2 : Int32) (σ : hc_St) : Option (Int32 × hc_St) := rc_X21_check n k0 k0 0 [x1, x2] σ
theorem okX21_check (l : Launch) (E : hc_E) (A : Nat → Prop) (d : Nat) (n : Nat) (k0 : Nat) (hD : k0 + 1 * k0 + 14 ≤ d)  {x1 : Int32} {x2 : Int32} {σ : hc_St} {r : (Int32 × hc_St)} (h : fm_X21_check n k0 x1 x2 σ = some r) (am : Nat → Nat → Nat) : hc_M l hc_V0 yX21_check (ws_ yX21_check cX21_check 8 (some .int)) d E A [.ref (E.2.1 23), .int x1, .int x2] am [] σ (.inl (some (.int r.1))) r.2 := okr_X21_check l E A n k0 k0 d hD 0 _ _ _ h am
def fm_X21_checkCall (n : Nat) (k0 : Nat) (x1 : Int32) (σ : hc_St) : Option (Int32 × hc_St) := rc_X21_check n k0 k0 1 [x1] σ
theorem okX21_checkCall (l : Launch) (E : hc_E) (A : Nat → Prop) (d : Nat) (n : Nat) (k0 : Nat) (hD : k0 + 1 * k0 + 14 ≤ d)  {x1 : Int32} {σ : hc_St} {r : (Int32 × hc_St)} (h : fm_X21_checkCall n k0 x1 σ = some r) (am : Nat → Nat → Nat) : hc_M l hc_V0 yX21_checkCall (ws_ yX21_checkCall cX21_checkCall 9 (some .int)) d E A [.ref (E.2.1 23), .int x1] am [] σ (.inl (some (.int r.1))) r.2 := okr_X21_check l E A n k0 k0 d hD 1 _ _ _ h am
def fm_X21_checkArgument (n : Nat) (k0 : Nat) (x1 : Int32) (x2 : Int32) (σ : hc_St) : Option (Int32 × hc_St) := rc_X21_check n k0 k0 2 [x1, x2] σ
theorem okX21_checkArgument (l : Launch) (E : hc_E) (A : Nat → Prop) (d : Nat) (n : Nat) (k0 : Nat) (hD : k0 + 1 * k0 + 14 ≤ d)  {x1 : Int32} {x2 : Int32} {σ : hc_St} {r : (Int32 × hc_St)} (h : fm_X21_checkArgument n k0 x1 x2 σ = some r) (am : Nat → Nat → Nat) : hc_M l hc_V0 yX21_checkArgument (ws_ yX21_checkArgument cX21_checkArgument 5 none) d E A [.ref (E.2.1 23), .int x1, .int x2] am [] σ (.inl (none)) r.2 := okr_X21_check l E A n k0 k0 d hD 2 _ _ _ h am
def fm_X21_checkConstant (n : Nat) (k0 : Nat) (x1 : Int32) (σ : hc_St) : Option (Int32 × hc_St) := rc_X21_check n k0 k0 3 [x1] σ
theorem okX21_checkConstant (l : Launch) (E : hc_E) (A : Nat → Prop) (d : Nat) (n : Nat) (k0 : Nat) (hD : k0 + 1 * k0 + 14 ≤ d)  {x1 : Int32} {σ : hc_St} {r : (Int32 × hc_St)} (h : fm_X21_checkConstant n k0 x1 σ = some r) (am : Nat → Nat → Nat) : hc_M l hc_V0 yX21_checkConstant (ws_ yX21_checkConstant cX21_checkConstant 5 (some .boolean)) d E A [.ref (E.2.1 23), .int x1] am [] σ (.inl (some (.int r.1))) r.2 := okr_X21_check l E A n k0 k0 d hD 3 _ _ _ h am
def fm_X21_meet (n : Nat) (k0 : Nat) (x1 : Int32) (σ : hc_St) : Option (Int32 × hc_St) := rc_X21_check n k0 k0 4 [x1] σ
theorem okX21_meet (l : Launch) (E : hc_E) (A : Nat → Prop) (d : Nat) (n : Nat) (k0 : Nat) (hD : k0 + 1 * k0 + 14 ≤ d)  {x1 : Int32} {σ : hc_St} {r : (Int32 × hc_St)} (h : fm_X21_meet n k0 x1 σ = some r) (am : Nat → Nat → Nat) : hc_M l hc_V0 yX21_meet (ws_ yX21_meet cX21_meet 3 none) d E A [.ref (E.2.1 23), .int x1] am [] σ (.inl (none)) r.2 := okr_X21_check l E A n k0 k0 d hD 4 _ _ _ h am
/-- HomeCompilerModel.checkAlone(I)V -/
def fm_X21_checkAlone (n : Nat) (k0 : Nat) (x1 : Int32) (σ : hc_St) : Option hc_St := Option.bind (fm_X21_check n k0 x1 0 σ) fun r1 => Option.bind (α := hc_St) (if r1.1 = 2 then (Option.bind (fm_X21_first x1 r1.2) fun r11 => Option.bind (fm_X21_bad 3 r11 r1.2) fun r15 => some (r15)) else (if r1.1 = 3 then (Option.bind (fm_X21_first x1 r1.2) fun r21 => Option.bind (fm_X21_bad 3 r21 r1.2) fun r25 => some (r25)) else (some (r1.2)))) fun r7 => some r7
set_option maxRecDepth 20000 in
set_option maxHeartbeats 4000000 in
theorem okX21_checkAlone (l : Launch) (E : hc_E) (A : Nat → Prop) (d : Nat) (n : Nat) (k0 : Nat) (hD : 2 * k0 + 15 ≤ d) {x1 : Int32} {σ : hc_St} {r : hc_St} (h : fm_X21_checkAlone n k0 x1 σ = some r) (am : Nat → Nat → Nat) : hc_M l hc_V0 yX21_checkAlone (ws_ yX21_checkAlone cX21_checkAlone 3 none) d E A [.ref (E.2.1 23), .int x1] am [] σ (.inl none) r := by
  have hd1 : 1 ≤ d := by omega
  have hd8 : 9 ≤ d := by omega
  have hd12 : 12 ≤ d := by omega
  refine hc_enter2 (own := RX21) [(0, .ref (E.2.1 23)), (1, .int x1)] pl_X21 rfl hc_V0_st hc_G0_nd rfl (Nat.le_of_ble_eq_true rfl) (fun X hC hem => ?_)
  unfold fm_X21_checkAlone at h
  refine hr_aload_n hC dX21_checkAlone_0 rfl ?_
  refine hr_iload_n hC dX21_checkAlone_1 rfl ?_
  refine hr_iconst (v := 0) hC dX21_checkAlone_2 rfl ?_
  obtain ⟨r1, e2, h⟩ := hx_bind h
  refine hs_callV0 hC 23 [_, _] _ dX21_checkAlone_3 q3442 q3444 qs247 q335 q3445 np_X21 rfl OB_23 pd_X21_check (Nat.le_of_ble_eq_true rfl) hd1 (okX21_check l E A (d - 1) n k0 (by omega)  e2 am) rfl ?_
  refine hr_istore_n hC dX21_checkAlone_6 (by decide) ?_
  refine hr_iload_n hC dX21_checkAlone_7 rfl ?_
  refine hr_iconst (v := 2) hC dX21_checkAlone_8 rfl ?_
  obtain ⟨r7, e8, h⟩ := hx_bind h
  have J9 : hc_At hc_V0 E 3 X 27 [] [] r7 am [] := by
    obtain rfl := Option.some.inj h
    exact hr_vret hC dX21_checkAlone_27
  clear h
  have h := e8
  refine hr_icmp_eq (x := _) hC 17 dX21_checkAlone_9 (by decide) (fun c6 => ?_) (fun c6 => ?_)
  · rw [if_pos c6] at h
    refine hr_aload_n hC dX21_checkAlone_17 rfl ?_
    refine hr_iconst (v := 3) hC dX21_checkAlone_18 rfl ?_
    refine hr_aload_n hC dX21_checkAlone_19 rfl ?_
    refine hr_iload_n hC dX21_checkAlone_20 rfl ?_
    obtain ⟨r11, e12, h⟩ := hx_bind h
    refine hs_callV0 hC 23 [_] _ dX21_checkAlone_21 q3474 q3476 qs255 q335 q3477 np_X21 rfl OB_23 pd_X21_first (Nat.le_of_ble_eq_true rfl) hd1 (okX21_first l E A (d - 1)  (by omega)  e12 am) rfl ?_
    obtain ⟨r15, e16, h⟩ := hx_bind h
    refine hs_callV0 hC 23 [_, _] _ dX21_checkAlone_24 q3398 q3400 qs236 q335 q3401 np_X21 rfl OB_23 pd_X21_bad (Nat.le_of_ble_eq_true rfl) hd1 (okX21_bad l E A (d - 1)  (by omega)  e16 am) rfl ?_
    obtain rfl := Option.some.inj h
    exact hr_sub _ rfl (J9)
  · rw [if_neg c6] at h
    refine hr_iload_n hC dX21_checkAlone_12 rfl ?_
    refine hr_iconst (v := 3) hC dX21_checkAlone_13 rfl ?_
    refine hr_icmp_ne (x := _) hC 27 dX21_checkAlone_14 (by decide) (fun c20 => ?_) (fun c20 => ?_)
    · rw [if_neg c20] at h
      obtain rfl := Option.some.inj h
      exact hr_sub _ rfl (J9)
    · rw [if_pos c20] at h
      refine hr_aload_n hC dX21_checkAlone_17 rfl ?_
      refine hr_iconst (v := 3) hC dX21_checkAlone_18 rfl ?_
      refine hr_aload_n hC dX21_checkAlone_19 rfl ?_
      refine hr_iload_n hC dX21_checkAlone_20 rfl ?_
      obtain ⟨r21, e22, h⟩ := hx_bind h
      refine hs_callV0 hC 23 [_] _ dX21_checkAlone_21 q3474 q3476 qs255 q335 q3477 np_X21 rfl OB_23 pd_X21_first (Nat.le_of_ble_eq_true rfl) hd1 (okX21_first l E A (d - 1)  (by omega)  e22 am) rfl ?_
      obtain ⟨r25, e26, h⟩ := hx_bind h
      refine hs_callV0 hC 23 [_, _] _ dX21_checkAlone_24 q3398 q3400 qs236 q335 q3401 np_X21 rfl OB_23 pd_X21_bad (Nat.le_of_ble_eq_true rfl) hd1 (okX21_bad l E A (d - 1)  (by omega)  e26 am) rfl ?_
      obtain rfl := Option.some.inj h
      exact hr_sub _ rfl (J9)
def lp_X21_declareArray_73 (n : Nat) (k0 : Nat) : Nat → Int32 → Int32 → Int32 → Int32 → Int32 → hc_St → Option (hc_St × Int32)
  | 0, _, _, _, _, _, _ => none
  | m + 1, y1, y2, y3, y4, y5, σ => if y5 < 0 then (some (σ, y4)) else (Option.bind (fm_X21_checkConstant n k0 y5 σ) fun r65 => hk (inb y5 (gL r65.2 23 25)) <| lp_X21_declareArray_73 n k0 m y1 y2 y3 ((y4 + 1)) ((gC r65.2 23 25 y5)) r65.2)
/-- HomeCompilerModel.declareArray(IZ)I -/
def fm_X21_declareArray (n : Nat) (k0 : Nat) (x1 : Int32) (x2 : Int32) (σ : hc_St) : Option (Int32 × hc_St) := hk (inb x1 (gL σ 23 21)) <| Option.bind (fm_X21_checkConstant n k0 ((gC σ 23 21 x1)) σ) fun r2 => Option.bind (α := hc_St × Int32) (if r2.1 = 0 then (some (r2.2, (-1))) else (if (gI r2.2 23 62) < 1 then (hk (inb x1 (gL r2.2 23 21)) <| Option.bind (fm_X21_first ((gC r2.2 23 21 x1)) r2.2) fun r15 => Option.bind (fm_X21_bad 8 r15 r2.2) fun r19 => some (r19, 4096)) else (if (gI r2.2 23 62) ≤ 4096 then (some (r2.2, (gI r2.2 23 62))) else (hk (inb x1 (gL r2.2 23 21)) <| Option.bind (fm_X21_first ((gC r2.2 23 21 x1)) r2.2) fun r26 => Option.bind (fm_X21_bad 8 r26 r2.2) fun r30 => some (r30, 4096))))) fun r8 => hk (inb x1 (gL r8.1 23 26)) <| Option.bind (α := hc_St) (if (gC r8.1 23 26 x1) = 2 then (hk (inb x1 (gL r8.1 23 22)) <| Option.bind (lp_X21_declareArray_73 n k0 n x1 x2 r8.2 0 ((gC r8.1 23 22 x1)) r8.1) fun r70 => Option.bind (α := hc_St) (if r8.2 < 0 then (some (r70.1)) else (if r70.2 ≤ r8.2 then (some (r70.1)) else (hk (inb x1 (gL r70.1 23 23)) <| Option.bind (fm_X21_bad 8 ((gC r70.1 23 23 x1)) r70.1) fun r84 => some (r84)))) fun r77 => some (r77)) else (hk (inb x1 (gL r8.1 23 26)) <| if (gC r8.1 23 26 x1) = 3 then (hk (inb x1 (gL r8.1 23 23)) <| hk (inb ((gC r8.1 23 23 x1)) (gL r8.1 23 14)) <| if x2 = 0 then (hk (inb x1 (gL r8.1 23 23)) <| Option.bind (fm_X21_bad 8 ((gC r8.1 23 23 x1)) r8.1) fun r49 => some (r49)) else (if r8.2 < 0 then (some (r8.1)) else (if (((gC r8.1 23 14 ((gC r8.1 23 23 x1)))) + 1) ≤ r8.2 then (some (r8.1)) else (hk (inb x1 (gL r8.1 23 23)) <| Option.bind (fm_X21_bad 8 ((gC r8.1 23 23 x1)) r8.1) fun r58 => some (r58))))) else (some (r8.1)))) fun r37 => hl (α := Int32) ((if 0 ≤ r8.2 then r8.2 else 0)) fun v90 => hl (pI r37 23 63 v90) fun σ91 => Option.bind (α := Int32) (if x2 = 0 then (some ((gI σ91 23 63))) else (some ((((((gI σ91 23 63)) + 3)) / 4)))) fun r94 => some (r94, σ91)
set_option maxRecDepth 20000 in
set_option maxHeartbeats 4000000 in
theorem ll_X21_declareArray_73 {l : Launch} {E : hc_E} {A : Nat → Prop} {am : Nat → Nat → Nat} {d : Nat} {X : hc_X} (n : Nat) (k0 : Nat) (hD : 2 * k0 + 15 ≤ d) (hem : X.2.2.2.2.2.2.2.2.2.1.exceptionTable.isEmpty = true) {oc : hc_Oc} {σe : hc_St} (hC : hc_C hc_V0 E cX21_declareArray 6 RX21 (some .int) d oc σe (l, A, am, []) X) : ∀ (m : Nat) (σ : hc_St) (y1 : Int32) (y2 : Int32) (y3 : Int32) (y4 : Int32) (y5 : Int32) (rl : hc_St × Int32) (am1 : Nat → Nat → Nat), lp_X21_declareArray_73 n k0 m y1 y2 y3 y4 y5 σ = some rl → (hc_At hc_V0 E 6 X 100 [(0, .ref (E.2.1 23)), (1, .int y1), (2, .int y2), (3, .int y3), (4, .int rl.2)] [] rl.1 am1 []) → hc_At hc_V0 E 6 X 73 [(0, .ref (E.2.1 23)), (1, .int y1), (2, .int y2), (3, .int y3), (4, .int y4), (5, .int y5)] [] σ am1 [] := by
  have hd1 : 1 ≤ d := by omega
  have hd8 : 9 ≤ d := by omega
  have hd12 : 12 ≤ d := by omega
  intro m
  induction m with
  | zero =>
    intro σ y1 y2 y3 y4 y5 rl am1 h
    cases h
  | succ m ih =>
    intro σ y1 y2 y3 y4 y5 rl am1 h JX
    rw [lp_X21_declareArray_73] at h
    refine hr_iload hC dX21_declareArray_73 rfl ?_
    refine hr_if_lt (x := _) hC 100 dX21_declareArray_75 (by decide) (fun c64 => ?_) (fun c64 => ?_)
    · rw [if_pos c64] at h
      obtain rfl := Option.some.inj h
      exact hr_sub _ rfl (JX)
    · rw [if_neg c64] at h
      refine hr_aload_n hC dX21_declareArray_78 rfl ?_
      refine hr_iload hC dX21_declareArray_79 rfl ?_
      obtain ⟨r65, e66, h⟩ := hx_bind h
      refine hs_callV0 hC 23 [_] _ dX21_declareArray_81 q3462 q3464 qs252 q335 q3465 np_X21 rfl OB_23 pd_X21_checkConstant (Nat.le_of_ble_eq_true rfl) hd1 (okX21_checkConstant l E A (d - 1) n k0 (by omega)  e66 am1) rfl ?_
      refine hr_pop hC dX21_declareArray_84 rfl ?_
      refine hr_iinc (v := y4 + 1) hC dX21_declareArray_85 rfl rfl (by decide) ?_
      refine hr_aload_n hC dX21_declareArray_88 rfl ?_
      refine hr_gA hC F23_25 rfl dX21_declareArray_89 q2867 ?_
      refine hr_iload hC dX21_declareArray_92 rfl ?_
      obtain ⟨c69, h⟩ := hk_ok h
      refine hs_iald hC A23_25 c69 dX21_declareArray_94 ?_
      refine hr_istore hC dX21_declareArray_95 (by decide) ?_
      refine hr_goto hC 73 dX21_declareArray_97 (by decide) ?_
      exact hr_sub _ rfl (ih _ _ _ _ _ _ _ am1 h JX)
set_option maxRecDepth 20000 in
set_option maxHeartbeats 4000000 in
theorem okX21_declareArray (l : Launch) (E : hc_E) (A : Nat → Prop) (d : Nat) (n : Nat) (k0 : Nat) (hD : 2 * k0 + 15 ≤ d) {x1 : Int32} {x2 : Int32} {σ : hc_St} {r : (Int32 × hc_St)} (h : fm_X21_declareArray n k0 x1 x2 σ = some r) (am : Nat → Nat → Nat) : hc_M l hc_V0 yX21_declareArray (ws_ yX21_declareArray cX21_declareArray 6 (some .int)) d E A [.ref (E.2.1 23), .int x1, .int x2] am [] σ (.inl (some (.int r.1))) r.2 := by
  have hd1 : 1 ≤ d := by omega
  have hd8 : 9 ≤ d := by omega
  have hd12 : 12 ≤ d := by omega
  refine hc_enter2 (own := RX21) [(0, .ref (E.2.1 23)), (1, .int x1), (2, .int x2)] pl_X21 rfl hc_V0_st hc_G0_nd rfl (Nat.le_of_ble_eq_true rfl) (fun X hC hem => ?_)
  unfold fm_X21_declareArray at h
  refine hr_iconst (v := (-1)) hC dX21_declareArray_0 rfl ?_
  refine hr_istore_n hC dX21_declareArray_1 (by decide) ?_
  refine hr_aload_n hC dX21_declareArray_2 rfl ?_
  refine hr_aload_n hC dX21_declareArray_3 rfl ?_
  refine hr_gA hC F23_21 rfl dX21_declareArray_4 q2863 ?_
  refine hr_iload_n hC dX21_declareArray_7 rfl ?_
  obtain ⟨c1, h⟩ := hk_ok h
  refine hs_iald hC A23_21 c1 dX21_declareArray_8 ?_
  obtain ⟨r2, e3, h⟩ := hx_bind h
  refine hs_callV0 hC 23 [_] _ dX21_declareArray_9 q3462 q3464 qs252 q335 q3465 np_X21 rfl OB_23 pd_X21_checkConstant (Nat.le_of_ble_eq_true rfl) hd1 (okX21_checkConstant l E A (d - 1) n k0 (by omega)  e3 am) rfl ?_
  obtain ⟨r8, e9, h⟩ := hx_bind h
  have J10 : hc_At hc_V0 E 6 X 52 [(0, .ref (E.2.1 23)), (1, .int x1), (2, .int x2), (3, .int r8.2)] [] r8.1 am [] := by
    refine hr_aload_n hC dX21_declareArray_52 rfl ?_
    refine hr_gA hC F23_26 rfl dX21_declareArray_53 q2868 ?_
    refine hr_iload_n hC dX21_declareArray_56 rfl ?_
    obtain ⟨c34, h⟩ := hk_ok h
    refine hs_iald hC A23_26 c34 dX21_declareArray_57 ?_
    refine hr_iconst (v := 2) hC dX21_declareArray_58 rfl ?_
    obtain ⟨r37, e38, h⟩ := hx_bind h
    have J39 : hc_At hc_V0 E 6 X 176 [(0, .ref (E.2.1 23)), (2, .int x2), (3, .int r8.2)] [] r37 am [] := by
      refine hr_aload_n hC dX21_declareArray_176 rfl ?_
      refine hr_iload_n hC dX21_declareArray_177 rfl ?_
      obtain ⟨v90, hv90, h⟩ := hl_ok h
      have J98 : ∀ w99 : Int32, (if 0 ≤ r8.2 then r8.2 else 0) = w99 → hc_At hc_V0 E 6 X 186 [(0, .ref (E.2.1 23)), (2, .int x2)] [.int w99, .ref (E.2.1 23)] r37 am [] := by
        intro w99 hw99
        obtain rfl := hv90.trans hw99
        obtain ⟨σ91, hσ91, h⟩ := hl_ok h
        refine hr_pI hC F23_63 PX21_63 dX21_declareArray_186 q2904 ?_
        rw [← hσ91]
        refine hr_iload_n hC dX21_declareArray_189 rfl ?_
        obtain ⟨r94, e95, h⟩ := hx_bind h
        have J96 : hc_At hc_V0 E 6 X 208 [] [.int r94] σ91 am [] := by
          obtain rfl := Option.some.inj h
          exact hr_iret hC dX21_declareArray_208
        clear h
        have h := e95
        refine hr_if_eq (x := _) hC 204 dX21_declareArray_190 (by decide) (fun c93 => ?_) (fun c93 => ?_)
        · rw [if_pos c93] at h
          refine hr_aload_n hC dX21_declareArray_204 rfl ?_
          refine hr_gI hC F23_63 dX21_declareArray_205 q2904 ?_
          obtain rfl := Option.some.inj h
          exact hr_sub _ rfl (J96)
        · rw [if_neg c93] at h
          refine hr_aload_n hC dX21_declareArray_193 rfl ?_
          refine hr_gI hC F23_63 dX21_declareArray_194 q2904 ?_
          refine hr_iconst (v := 3) hC dX21_declareArray_197 rfl ?_
          refine hr_iadd hC dX21_declareArray_198 ?_
          refine hr_iconst (v := 4) hC dX21_declareArray_199 rfl ?_
          refine hr_idiv hC dX21_declareArray_200 (by decide) ?_
          refine hr_goto hC 208 dX21_declareArray_201 (by decide) ?_
          obtain rfl := Option.some.inj h
          exact hr_sub _ rfl (J96)
      refine hr_if_ge (x := _) hC 185 dX21_declareArray_178 (by decide) (fun c100 => ?_) (fun c100 => ?_)
      · refine hr_iload_n hC dX21_declareArray_185 rfl ?_
        exact hr_sub _ rfl (J98 _ (by first | (rw [if_pos c100]; done) | (simp only [if_pos c100]; done) | rfl))
      · refine hr_iconst (v := 0) hC dX21_declareArray_181 rfl ?_
        refine hr_goto hC 186 dX21_declareArray_182 (by decide) ?_
        exact hr_sub _ rfl (J98 _ (by first | (rw [if_neg c100]; done) | (simp only [if_neg c100]; done) | rfl))
    clear h
    have h := e38
    refine hr_icmp_ne (x := _) hC 125 dX21_declareArray_59 (by decide) (fun c36 => ?_) (fun c36 => ?_)
    · rw [if_neg c36] at h
      refine hr_aload_n hC dX21_declareArray_125 rfl ?_
      refine hr_gA hC F23_26 rfl dX21_declareArray_126 q2868 ?_
      refine hr_iload_n hC dX21_declareArray_129 rfl ?_
      obtain ⟨c41, h⟩ := hk_ok h
      refine hs_iald hC A23_26 c41 dX21_declareArray_130 ?_
      refine hr_iconst (v := 3) hC dX21_declareArray_131 rfl ?_
      refine hr_icmp_ne (x := _) hC 176 dX21_declareArray_132 (by decide) (fun c43 => ?_) (fun c43 => ?_)
      · rw [if_neg c43] at h
        obtain rfl := Option.some.inj h
        exact hr_sub _ rfl (J39)
      · rw [if_pos c43] at h
        refine hr_aload_n hC dX21_declareArray_135 rfl ?_
        refine hr_gA hC F23_14 rfl dX21_declareArray_136 q2856 ?_
        refine hr_aload_n hC dX21_declareArray_139 rfl ?_
        refine hr_gA hC F23_23 rfl dX21_declareArray_140 q2865 ?_
        refine hr_iload_n hC dX21_declareArray_143 rfl ?_
        obtain ⟨c44, h⟩ := hk_ok h
        refine hs_iald hC A23_23 c44 dX21_declareArray_144 ?_
        obtain ⟨c45, h⟩ := hk_ok h
        refine hs_iald hC A23_14 c45 dX21_declareArray_145 ?_
        refine hr_iconst (v := 1) hC dX21_declareArray_146 rfl ?_
        refine hr_iadd hC dX21_declareArray_147 ?_
        refine hr_istore hC dX21_declareArray_148 (by decide) ?_
        refine hr_iload_n hC dX21_declareArray_150 rfl ?_
        refine hr_if_eq (x := _) hC 164 dX21_declareArray_151 (by decide) (fun c47 => ?_) (fun c47 => ?_)
        · rw [if_pos c47] at h
          refine hr_aload_n hC dX21_declareArray_164 rfl ?_
          refine hr_bipush (v := 8) hC dX21_declareArray_165 rfl ?_
          refine hr_aload_n hC dX21_declareArray_167 rfl ?_
          refine hr_gA hC F23_23 rfl dX21_declareArray_168 q2865 ?_
          refine hr_iload_n hC dX21_declareArray_171 rfl ?_
          obtain ⟨c48, h⟩ := hk_ok h
          refine hs_iald hC A23_23 c48 dX21_declareArray_172 ?_
          obtain ⟨r49, e50, h⟩ := hx_bind h
          refine hs_callV0 hC 23 [_, _] _ dX21_declareArray_173 q3398 q3400 qs236 q335 q3401 np_X21 rfl OB_23 pd_X21_bad (Nat.le_of_ble_eq_true rfl) hd1 (okX21_bad l E A (d - 1)  (by omega)  e50 am) rfl ?_
          obtain rfl := Option.some.inj h
          exact hr_sub _ rfl (J39)
        · rw [if_neg c47] at h
          refine hr_iload_n hC dX21_declareArray_154 rfl ?_
          refine hr_if_lt (x := _) hC 176 dX21_declareArray_155 (by decide) (fun c54 => ?_) (fun c54 => ?_)
          · rw [if_pos c54] at h
            obtain rfl := Option.some.inj h
            exact hr_sub _ rfl (J39)
          · rw [if_neg c54] at h
            refine hr_iload hC dX21_declareArray_158 rfl ?_
            refine hr_iload_n hC dX21_declareArray_160 rfl ?_
            refine hr_icmp_le (x := _) hC 176 dX21_declareArray_161 (by decide) (fun c56 => ?_) (fun c56 => ?_)
            · rw [if_pos c56] at h
              obtain rfl := Option.some.inj h
              exact hr_sub _ rfl (J39)
            · rw [if_neg c56] at h
              refine hr_aload_n hC dX21_declareArray_164 rfl ?_
              refine hr_bipush (v := 8) hC dX21_declareArray_165 rfl ?_
              refine hr_aload_n hC dX21_declareArray_167 rfl ?_
              refine hr_gA hC F23_23 rfl dX21_declareArray_168 q2865 ?_
              refine hr_iload_n hC dX21_declareArray_171 rfl ?_
              obtain ⟨c57, h⟩ := hk_ok h
              refine hs_iald hC A23_23 c57 dX21_declareArray_172 ?_
              obtain ⟨r58, e59, h⟩ := hx_bind h
              refine hs_callV0 hC 23 [_, _] _ dX21_declareArray_173 q3398 q3400 qs236 q335 q3401 np_X21 rfl OB_23 pd_X21_bad (Nat.le_of_ble_eq_true rfl) hd1 (okX21_bad l E A (d - 1)  (by omega)  e59 am) rfl ?_
              obtain rfl := Option.some.inj h
              exact hr_sub _ rfl (J39)
    · rw [if_pos c36] at h
      refine hr_iconst (v := 0) hC dX21_declareArray_62 rfl ?_
      refine hr_istore hC dX21_declareArray_63 (by decide) ?_
      refine hr_aload_n hC dX21_declareArray_65 rfl ?_
      refine hr_gA hC F23_22 rfl dX21_declareArray_66 q2864 ?_
      refine hr_iload_n hC dX21_declareArray_69 rfl ?_
      obtain ⟨c62, h⟩ := hk_ok h
      refine hs_iald hC A23_22 c62 dX21_declareArray_70 ?_
      refine hr_istore hC dX21_declareArray_71 (by decide) ?_
      obtain ⟨r70, e71, h⟩ := hx_bind h
      refine hr_sub _ rfl (ll_X21_declareArray_73 n k0 hD hem hC n _ _ _ _ _ _ _ am e71 ?_)
      refine hr_iload_n hC dX21_declareArray_100 rfl ?_
      obtain ⟨r77, e78, h⟩ := hx_bind h
      have J79 : hc_At hc_V0 E 6 X 122 [(0, .ref (E.2.1 23)), (2, .int x2), (3, .int r8.2)] [] r77 am [] := by
        refine hr_goto hC 176 dX21_declareArray_122 (by decide) ?_
        obtain rfl := Option.some.inj h
        exact hr_sub _ rfl (J39)
      clear h
      have h := e78
      refine hr_if_lt (x := _) hC 122 dX21_declareArray_101 (by decide) (fun c76 => ?_) (fun c76 => ?_)
      · rw [if_pos c76] at h
        obtain rfl := Option.some.inj h
        exact hr_sub _ rfl (J79)
      · rw [if_neg c76] at h
        refine hr_iload hC dX21_declareArray_104 rfl ?_
        refine hr_iload_n hC dX21_declareArray_106 rfl ?_
        refine hr_icmp_le (x := _) hC 122 dX21_declareArray_107 (by decide) (fun c82 => ?_) (fun c82 => ?_)
        · rw [if_pos c82] at h
          obtain rfl := Option.some.inj h
          exact hr_sub _ rfl (J79)
        · rw [if_neg c82] at h
          refine hr_aload_n hC dX21_declareArray_110 rfl ?_
          refine hr_bipush (v := 8) hC dX21_declareArray_111 rfl ?_
          refine hr_aload_n hC dX21_declareArray_113 rfl ?_
          refine hr_gA hC F23_23 rfl dX21_declareArray_114 q2865 ?_
          refine hr_iload_n hC dX21_declareArray_117 rfl ?_
          obtain ⟨c83, h⟩ := hk_ok h
          refine hs_iald hC A23_23 c83 dX21_declareArray_118 ?_
          obtain ⟨r84, e85, h⟩ := hx_bind h
          refine hs_callV0 hC 23 [_, _] _ dX21_declareArray_119 q3398 q3400 qs236 q335 q3401 np_X21 rfl OB_23 pd_X21_bad (Nat.le_of_ble_eq_true rfl) hd1 (okX21_bad l E A (d - 1)  (by omega)  e85 am) rfl ?_
          obtain rfl := Option.some.inj h
          exact hr_sub _ rfl (J79)
  clear h
  have h := e9
  refine hr_if_eq (x := _) hC 52 dX21_declareArray_12 (by decide) (fun c7 => ?_) (fun c7 => ?_)
  · rw [if_pos c7] at h
    obtain rfl := Option.some.inj h
    exact hr_sub _ rfl (J10)
  · rw [if_neg c7] at h
    refine hr_aload_n hC dX21_declareArray_15 rfl ?_
    refine hr_gI hC F23_62 dX21_declareArray_16 q2903 ?_
    refine hr_istore_n hC dX21_declareArray_19 (by decide) ?_
    refine hr_iload_n hC dX21_declareArray_20 rfl ?_
    refine hr_iconst (v := 1) hC dX21_declareArray_21 rfl ?_
    refine hr_icmp_lt (x := _) hC 32 dX21_declareArray_22 (by decide) (fun c13 => ?_) (fun c13 => ?_)
    · rw [if_pos c13] at h
      refine hr_aload_n hC dX21_declareArray_32 rfl ?_
      refine hr_bipush (v := 8) hC dX21_declareArray_33 rfl ?_
      refine hr_aload_n hC dX21_declareArray_35 rfl ?_
      refine hr_aload_n hC dX21_declareArray_36 rfl ?_
      refine hr_gA hC F23_21 rfl dX21_declareArray_37 q2863 ?_
      refine hr_iload_n hC dX21_declareArray_40 rfl ?_
      obtain ⟨c14, h⟩ := hk_ok h
      refine hs_iald hC A23_21 c14 dX21_declareArray_41 ?_
      obtain ⟨r15, e16, h⟩ := hx_bind h
      refine hs_callV0 hC 23 [_] _ dX21_declareArray_42 q3474 q3476 qs255 q335 q3477 np_X21 rfl OB_23 pd_X21_first (Nat.le_of_ble_eq_true rfl) hd1 (okX21_first l E A (d - 1)  (by omega)  e16 am) rfl ?_
      obtain ⟨r19, e20, h⟩ := hx_bind h
      refine hs_callV0 hC 23 [_, _] _ dX21_declareArray_45 q3398 q3400 qs236 q335 q3401 np_X21 rfl OB_23 pd_X21_bad (Nat.le_of_ble_eq_true rfl) hd1 (okX21_bad l E A (d - 1)  (by omega)  e20 am) rfl ?_
      refine hr_sipush (v := 4096) hC dX21_declareArray_48 rfl ?_
      refine hr_istore_n hC dX21_declareArray_51 (by decide) ?_
      obtain rfl := Option.some.inj h
      exact hr_sub _ rfl (J10)
    · rw [if_neg c13] at h
      refine hr_iload_n hC dX21_declareArray_25 rfl ?_
      refine hr_sipush (v := 4096) hC dX21_declareArray_26 rfl ?_
      refine hr_icmp_le (x := _) hC 52 dX21_declareArray_29 (by decide) (fun c24 => ?_) (fun c24 => ?_)
      · rw [if_pos c24] at h
        obtain rfl := Option.some.inj h
        exact hr_sub _ rfl (J10)
      · rw [if_neg c24] at h
        refine hr_aload_n hC dX21_declareArray_32 rfl ?_
        refine hr_bipush (v := 8) hC dX21_declareArray_33 rfl ?_
        refine hr_aload_n hC dX21_declareArray_35 rfl ?_
        refine hr_aload_n hC dX21_declareArray_36 rfl ?_
        refine hr_gA hC F23_21 rfl dX21_declareArray_37 q2863 ?_
        refine hr_iload_n hC dX21_declareArray_40 rfl ?_
        obtain ⟨c25, h⟩ := hk_ok h
        refine hs_iald hC A23_21 c25 dX21_declareArray_41 ?_
        obtain ⟨r26, e27, h⟩ := hx_bind h
        refine hs_callV0 hC 23 [_] _ dX21_declareArray_42 q3474 q3476 qs255 q335 q3477 np_X21 rfl OB_23 pd_X21_first (Nat.le_of_ble_eq_true rfl) hd1 (okX21_first l E A (d - 1)  (by omega)  e27 am) rfl ?_
        obtain ⟨r30, e31, h⟩ := hx_bind h
        refine hs_callV0 hC 23 [_, _] _ dX21_declareArray_45 q3398 q3400 qs236 q335 q3401 np_X21 rfl OB_23 pd_X21_bad (Nat.le_of_ble_eq_true rfl) hd1 (okX21_bad l E A (d - 1)  (by omega)  e31 am) rfl ?_
        refine hr_sipush (v := 4096) hC dX21_declareArray_48 rfl ?_
        refine hr_istore_n hC dX21_declareArray_51 (by decide) ?_
        obtain rfl := Option.some.inj h
        exact hr_sub _ rfl (J10)
def lp_X21_declare_7 (n : Nat) (k0 : Nat) : Nat → Int32 → Int32 → Int32 → hc_St → Option (hc_St)
  | 0, _, _, _, _ => none
  | m + 1, y1, y2, y3, σ => if y3 < 0 then (some (σ)) else (hk (inb y3 (gL σ 23 19)) <| Option.bind (fm_X21_checkNew n ((gC σ 23 19 y3)) σ) fun r5 => hk (inb y3 (gL r5 23 21)) <| Option.bind (α := hc_St) (if (gC r5 23 21 y3) < 0 then (hk (inb y3 (gL r5 23 26)) <| Option.bind (α := hc_St) (if (gC r5 23 26 y3) = 1 then (if y2 = 0 then (hk (inb y3 (gL r5 23 26)) <| if (gC r5 23 26 y3) = 1 then (hk (inb y3 (gL r5 23 22)) <| Option.bind (fm_X21_check n k0 ((gC r5 23 22 y3)) 1 r5) fun r37 => some (r37.2)) else (some (r5))) else (hk (inb y3 (gL r5 23 22)) <| Option.bind (fm_X21_checkConstant n k0 ((gC r5 23 22 y3)) r5) fun r42 => some (r42.2))) else (hk (inb y3 (gL r5 23 26)) <| if (gC r5 23 26 y3) = 1 then (hk (inb y3 (gL r5 23 22)) <| Option.bind (fm_X21_check n k0 ((gC r5 23 22 y3)) 1 r5) fun r27 => some (r27.2)) else (some (r5)))) fun r19 => hl (pI r19 23 47 ((((gI r19 23 47)) + 1))) fun σ46 => hk (inb y1 (gL σ46 23 26)) <| hl (α := Int32) ((if (gC σ46 23 26 y1) = 1 then 1 else 0)) fun v50 => Option.bind (fm_X21_lay v50 1 σ46) fun r51 => hk (inb y3 (gL r51.2 23 24)) <| hl (pC r51.2 23 24 y3 r51.1) fun σ56 => hk (inb y3 (gL σ56 23 24)) <| Option.bind (fm_X21_know ((gC σ 23 19 y3)) 1 0 ((gC σ56 23 24 y3)) σ56) fun r58 => some (r58)) else (hk (inb y1 (gL r5 23 26)) <| hl (α := Int32) ((if (gC r5 23 26 y1) = 1 then 1 else 0)) fun v68 => Option.bind (fm_X21_declareArray n k0 y3 v68 r5) fun r69 => hl (pI r69.2 23 47 ((((gI r5 23 47)) + r69.1))) fun σ73 => hk (inb y1 (gL σ73 23 26)) <| hl (α := Int32) ((if (gC σ73 23 26 y1) = 1 then 3 else 2)) fun v77 => Option.bind (fm_X21_lay v77 ((gI σ73 23 63)) σ73) fun r78 => hk (inb y3 (gL r78.2 23 24)) <| hl (pC r78.2 23 24 y3 r78.1) fun σ83 => hk (inb y1 (gL σ83 23 26)) <| hl (α := Int32) ((if (gC σ83 23 26 y1) = 1 then 3 else 2)) fun v87 => hk (inb y3 (gL σ83 23 24)) <| Option.bind (fm_X21_know ((gC σ 23 19 y3)) v87 0 ((gC σ83 23 24 y3)) σ83) fun r89 => some (r89))) fun r12 => hk (inb y3 (gL r12 23 25)) <| lp_X21_declare_7 n k0 m y1 y2 ((gC r12 23 25 y3)) r12)
/-- HomeCompilerModel.declare(IZ)V -/
def fm_X21_declare (n : Nat) (k0 : Nat) (x1 : Int32) (x2 : Int32) (σ : hc_St) : Option hc_St := hk (inb x1 (gL σ 23 21)) <| Option.bind (lp_X21_declare_7 n k0 n x1 x2 ((gC σ 23 21 x1)) σ) fun r103 => some r103
set_option maxRecDepth 20000 in
set_option maxHeartbeats 4000000 in
theorem ll_X21_declare_7 {l : Launch} {E : hc_E} {A : Nat → Prop} {am : Nat → Nat → Nat} {d : Nat} {X : hc_X} (n : Nat) (k0 : Nat) (hD : 2 * k0 + 16 ≤ d) (hem : X.2.2.2.2.2.2.2.2.2.1.exceptionTable.isEmpty = true) {oc : hc_Oc} {σe : hc_St} (hC : hc_C hc_V0 E cX21_declare 5 RX21 none d oc σe (l, A, am, []) X) : ∀ (m : Nat) (σ : hc_St) (y1 : Int32) (y2 : Int32) (y3 : Int32) (rl : hc_St) (am1 : Nat → Nat → Nat), lp_X21_declare_7 n k0 m y1 y2 y3 σ = some rl → (hc_At hc_V0 E 5 X 233 [] [] rl am1 []) → hc_At hc_V0 E 5 X 7 [(0, .ref (E.2.1 23)), (1, .int y1), (2, .int y2), (3, .int y3)] [] σ am1 [] := by
  have hd1 : 1 ≤ d := by omega
  have hd8 : 9 ≤ d := by omega
  have hd12 : 12 ≤ d := by omega
  intro m
  induction m with
  | zero =>
    intro σ y1 y2 y3 rl am1 h
    cases h
  | succ m ih =>
    intro σ y1 y2 y3 rl am1 h JX
    rw [lp_X21_declare_7] at h
    refine hr_iload_n hC dX21_declare_7 rfl ?_
    refine hr_if_lt (x := _) hC 233 dX21_declare_8 (by decide) (fun c3 => ?_) (fun c3 => ?_)
    · rw [if_pos c3] at h
      obtain rfl := Option.some.inj h
      exact hr_sub _ rfl (JX)
    · rw [if_neg c3] at h
      refine hr_aload_n hC dX21_declare_11 rfl ?_
      refine hr_gA hC F23_19 rfl dX21_declare_12 q2861 ?_
      refine hr_iload_n hC dX21_declare_15 rfl ?_
      obtain ⟨c4, h⟩ := hk_ok h
      refine hs_iald hC A23_19 c4 dX21_declare_16 ?_
      refine hr_istore hC dX21_declare_17 (by decide) ?_
      refine hr_aload_n hC dX21_declare_19 rfl ?_
      refine hr_iload hC dX21_declare_20 rfl ?_
      obtain ⟨r5, e6, h⟩ := hx_bind h
      refine hs_callV0 hC 23 [_] _ dX21_declare_22 q3402 q3404 qs237 q335 q3405 np_X21 rfl OB_23 pd_X21_checkNew (Nat.le_of_ble_eq_true rfl) hd1 (okX21_checkNew l E A (d - 1) n (by omega)  e6 am1) rfl ?_
      refine hr_aload_n hC dX21_declare_25 rfl ?_
      refine hr_gA hC F23_21 rfl dX21_declare_26 q2863 ?_
      refine hr_iload_n hC dX21_declare_29 rfl ?_
      obtain ⟨c9, h⟩ := hk_ok h
      refine hs_iald hC A23_21 c9 dX21_declare_30 ?_
      obtain ⟨r12, e13, h⟩ := hx_bind h
      have J14 : hc_At hc_V0 E 5 X 223 [(0, .ref (E.2.1 23)), (1, .int y1), (2, .int y2), (3, .int y3)] [] r12 am1 [] := by
        refine hr_aload_n hC dX21_declare_223 rfl ?_
        refine hr_gA hC F23_25 rfl dX21_declare_224 q2867 ?_
        refine hr_iload_n hC dX21_declare_227 rfl ?_
        obtain ⟨c102, h⟩ := hk_ok h
        refine hs_iald hC A23_25 c102 dX21_declare_228 ?_
        refine hr_istore_n hC dX21_declare_229 (by decide) ?_
        refine hr_goto hC 7 dX21_declare_230 (by decide) ?_
        exact hr_sub _ rfl (ih _ _ _ _ _ am1 h JX)
      clear h
      have h := e13
      refine hr_if_lt (x := _) hC 123 dX21_declare_31 (by decide) (fun c11 => ?_) (fun c11 => ?_)
      · rw [if_pos c11] at h
        refine hr_aload_n hC dX21_declare_123 rfl ?_
        refine hr_gA hC F23_26 rfl dX21_declare_124 q2868 ?_
        refine hr_iload_n hC dX21_declare_127 rfl ?_
        obtain ⟨c16, h⟩ := hk_ok h
        refine hs_iald hC A23_26 c16 dX21_declare_128 ?_
        refine hr_iconst (v := 1) hC dX21_declare_129 rfl ?_
        obtain ⟨r19, e20, h⟩ := hx_bind h
        have J21 : hc_At hc_V0 E 5 X 173 [(0, .ref (E.2.1 23)), (1, .int y1), (2, .int y2), (3, .int y3), (4, .int (gC σ 23 19 y3))] [] r19 am1 [] := by
          refine hr_aload_n hC dX21_declare_173 rfl ?_
          refine hr_dup hC dX21_declare_174 rfl ?_
          refine hr_gI hC F23_47 dX21_declare_175 q2888 ?_
          refine hr_iconst (v := 1) hC dX21_declare_178 rfl ?_
          refine hr_iadd hC dX21_declare_179 ?_
          obtain ⟨σ46, hσ46, h⟩ := hl_ok h
          refine hr_pI hC F23_47 PX21_47 dX21_declare_180 q2888 ?_
          rw [← hσ46]
          refine hr_aload_n hC dX21_declare_183 rfl ?_
          refine hr_gA hC F23_24 rfl dX21_declare_184 q2866 ?_
          refine hr_iload_n hC dX21_declare_187 rfl ?_
          refine hr_aload_n hC dX21_declare_188 rfl ?_
          refine hr_aload_n hC dX21_declare_189 rfl ?_
          refine hr_gA hC F23_26 rfl dX21_declare_190 q2868 ?_
          refine hr_iload_n hC dX21_declare_193 rfl ?_
          obtain ⟨c47, h⟩ := hk_ok h
          refine hs_iald hC A23_26 c47 dX21_declare_194 ?_
          refine hr_iconst (v := 1) hC dX21_declare_195 rfl ?_
          obtain ⟨v50, hv50, h⟩ := hl_ok h
          have J62 : ∀ w63 : Int32, (if (gC σ46 23 26 y1) = 1 then 1 else 0) = w63 → hc_At hc_V0 E 5 X 204 [(0, .ref (E.2.1 23)), (1, .int y1), (2, .int y2), (3, .int y3), (4, .int (gC σ 23 19 y3))] [.int w63, .ref (E.2.1 23), .int y3, .ref (am1 23 24)] σ46 am1 [] := by
            intro w63 hw63
            obtain rfl := hv50.trans hw63
            refine hr_iconst (v := 1) hC dX21_declare_204 rfl ?_
            obtain ⟨r51, e52, h⟩ := hx_bind h
            refine hs_callV0 hC 23 [_, _] _ dX21_declare_205 q3414 q3416 qs240 q335 q3417 np_X21 rfl OB_23 pd_X21_lay (Nat.le_of_ble_eq_true rfl) hd1 (okX21_lay l E A (d - 1)  (by omega)  e52 am1) rfl ?_
            obtain ⟨c55, h⟩ := hk_ok h
            obtain ⟨σ56, hσ56, h⟩ := hl_ok h
            refine hs_iast hC A23_24 c55 dX21_declare_208 ?_
            rw [← hσ56]
            refine hr_aload_n hC dX21_declare_209 rfl ?_
            refine hr_iload hC dX21_declare_210 rfl ?_
            refine hr_iconst (v := 1) hC dX21_declare_212 rfl ?_
            refine hr_iconst (v := 0) hC dX21_declare_213 rfl ?_
            refine hr_aload_n hC dX21_declare_214 rfl ?_
            refine hr_gA hC F23_24 rfl dX21_declare_215 q2866 ?_
            refine hr_iload_n hC dX21_declare_218 rfl ?_
            obtain ⟨c57, h⟩ := hk_ok h
            refine hs_iald hC A23_24 c57 dX21_declare_219 ?_
            obtain ⟨r58, e59, h⟩ := hx_bind h
            refine hs_callV0 hC 23 [_, _, _, _] _ dX21_declare_220 q3418 q3420 qs241 q335 q3421 np_X21 rfl OB_23 pd_X21_know (Nat.le_of_ble_eq_true rfl) hd1 (okX21_know l E A (d - 1)  (by omega)  e59 am1) rfl ?_
            obtain rfl := Option.some.inj h
            exact hr_sub _ rfl (J14)
          refine hr_icmp_ne (x := _) hC 203 dX21_declare_196 (by decide) (fun c64 => ?_) (fun c64 => ?_)
          · refine hr_iconst (v := 0) hC dX21_declare_203 rfl ?_
            exact hr_sub _ rfl (J62 _ (by first | (rw [if_neg c64]; done) | (simp only [if_neg c64]; done) | rfl))
          · refine hr_iconst (v := 1) hC dX21_declare_199 rfl ?_
            refine hr_goto hC 204 dX21_declare_200 (by decide) ?_
            exact hr_sub _ rfl (J62 _ (by first | (rw [if_pos c64]; done) | (simp only [if_pos c64]; done) | rfl))
        clear h
        have h := e20
        refine hr_icmp_ne (x := _) hC 151 dX21_declare_130 (by decide) (fun c18 => ?_) (fun c18 => ?_)
        · rw [if_neg c18] at h
          refine hr_aload_n hC dX21_declare_151 rfl ?_
          refine hr_gA hC F23_26 rfl dX21_declare_152 q2868 ?_
          refine hr_iload_n hC dX21_declare_155 rfl ?_
          obtain ⟨c23, h⟩ := hk_ok h
          refine hs_iald hC A23_26 c23 dX21_declare_156 ?_
          refine hr_iconst (v := 1) hC dX21_declare_157 rfl ?_
          refine hr_icmp_ne (x := _) hC 173 dX21_declare_158 (by decide) (fun c25 => ?_) (fun c25 => ?_)
          · rw [if_neg c25] at h
            obtain rfl := Option.some.inj h
            exact hr_sub _ rfl (J21)
          · rw [if_pos c25] at h
            refine hr_aload_n hC dX21_declare_161 rfl ?_
            refine hr_aload_n hC dX21_declare_162 rfl ?_
            refine hr_gA hC F23_22 rfl dX21_declare_163 q2864 ?_
            refine hr_iload_n hC dX21_declare_166 rfl ?_
            obtain ⟨c26, h⟩ := hk_ok h
            refine hs_iald hC A23_22 c26 dX21_declare_167 ?_
            refine hr_iconst (v := 1) hC dX21_declare_168 rfl ?_
            obtain ⟨r27, e28, h⟩ := hx_bind h
            refine hs_callV0 hC 23 [_, _] _ dX21_declare_169 q3442 q3444 qs247 q335 q3445 np_X21 rfl OB_23 pd_X21_check (Nat.le_of_ble_eq_true rfl) hd1 (okX21_check l E A (d - 1) n k0 (by omega)  e28 am1) rfl ?_
            refine hr_pop hC dX21_declare_172 rfl ?_
            obtain rfl := Option.some.inj h
            exact hr_sub _ rfl (J21)
        · rw [if_pos c18] at h
          refine hr_iload_n hC dX21_declare_133 rfl ?_
          refine hr_if_eq (x := _) hC 151 dX21_declare_134 (by decide) (fun c32 => ?_) (fun c32 => ?_)
          · rw [if_pos c32] at h
            refine hr_aload_n hC dX21_declare_151 rfl ?_
            refine hr_gA hC F23_26 rfl dX21_declare_152 q2868 ?_
            refine hr_iload_n hC dX21_declare_155 rfl ?_
            obtain ⟨c33, h⟩ := hk_ok h
            refine hs_iald hC A23_26 c33 dX21_declare_156 ?_
            refine hr_iconst (v := 1) hC dX21_declare_157 rfl ?_
            refine hr_icmp_ne (x := _) hC 173 dX21_declare_158 (by decide) (fun c35 => ?_) (fun c35 => ?_)
            · rw [if_neg c35] at h
              obtain rfl := Option.some.inj h
              exact hr_sub _ rfl (J21)
            · rw [if_pos c35] at h
              refine hr_aload_n hC dX21_declare_161 rfl ?_
              refine hr_aload_n hC dX21_declare_162 rfl ?_
              refine hr_gA hC F23_22 rfl dX21_declare_163 q2864 ?_
              refine hr_iload_n hC dX21_declare_166 rfl ?_
              obtain ⟨c36, h⟩ := hk_ok h
              refine hs_iald hC A23_22 c36 dX21_declare_167 ?_
              refine hr_iconst (v := 1) hC dX21_declare_168 rfl ?_
              obtain ⟨r37, e38, h⟩ := hx_bind h
              refine hs_callV0 hC 23 [_, _] _ dX21_declare_169 q3442 q3444 qs247 q335 q3445 np_X21 rfl OB_23 pd_X21_check (Nat.le_of_ble_eq_true rfl) hd1 (okX21_check l E A (d - 1) n k0 (by omega)  e38 am1) rfl ?_
              refine hr_pop hC dX21_declare_172 rfl ?_
              obtain rfl := Option.some.inj h
              exact hr_sub _ rfl (J21)
          · rw [if_neg c32] at h
            refine hr_aload_n hC dX21_declare_137 rfl ?_
            refine hr_aload_n hC dX21_declare_138 rfl ?_
            refine hr_gA hC F23_22 rfl dX21_declare_139 q2864 ?_
            refine hr_iload_n hC dX21_declare_142 rfl ?_
            obtain ⟨c41, h⟩ := hk_ok h
            refine hs_iald hC A23_22 c41 dX21_declare_143 ?_
            obtain ⟨r42, e43, h⟩ := hx_bind h
            refine hs_callV0 hC 23 [_] _ dX21_declare_144 q3462 q3464 qs252 q335 q3465 np_X21 rfl OB_23 pd_X21_checkConstant (Nat.le_of_ble_eq_true rfl) hd1 (okX21_checkConstant l E A (d - 1) n k0 (by omega)  e43 am1) rfl ?_
            refine hr_pop hC dX21_declare_147 rfl ?_
            refine hr_goto hC 173 dX21_declare_148 (by decide) ?_
            obtain rfl := Option.some.inj h
            exact hr_sub _ rfl (J21)
      · rw [if_neg c11] at h
        refine hr_aload_n hC dX21_declare_34 rfl ?_
        refine hr_aload_n hC dX21_declare_35 rfl ?_
        refine hr_gI hC F23_47 dX21_declare_36 q2888 ?_
        refine hr_aload_n hC dX21_declare_39 rfl ?_
        refine hr_iload_n hC dX21_declare_40 rfl ?_
        refine hr_aload_n hC dX21_declare_41 rfl ?_
        refine hr_gA hC F23_26 rfl dX21_declare_42 q2868 ?_
        refine hr_iload_n hC dX21_declare_45 rfl ?_
        obtain ⟨c65, h⟩ := hk_ok h
        refine hs_iald hC A23_26 c65 dX21_declare_46 ?_
        refine hr_iconst (v := 1) hC dX21_declare_47 rfl ?_
        obtain ⟨v68, hv68, h⟩ := hl_ok h
        have J99 : ∀ w100 : Int32, (if (gC r5 23 26 y1) = 1 then 1 else 0) = w100 → hc_At hc_V0 E 5 X 56 [(0, .ref (E.2.1 23)), (1, .int y1), (2, .int y2), (3, .int y3), (4, .int (gC σ 23 19 y3))] [.int w100, .int y3, .ref (E.2.1 23), .int (gI r5 23 47), .ref (E.2.1 23)] r5 am1 [] := by
          intro w100 hw100
          obtain rfl := hv68.trans hw100
          obtain ⟨r69, e70, h⟩ := hx_bind h
          refine hs_callV0 hC 23 [_, _] _ dX21_declare_56 q3498 q3500 qs261 q335 q3501 np_X21 rfl OB_23 pd_X21_declareArray (Nat.le_of_ble_eq_true rfl) hd1 (okX21_declareArray l E A (d - 1) n k0 (by omega)  e70 am1) rfl ?_
          refine hr_iadd hC dX21_declare_59 ?_
          obtain ⟨σ73, hσ73, h⟩ := hl_ok h
          refine hr_pI hC F23_47 PX21_47 dX21_declare_60 q2888 ?_
          rw [← hσ73]
          refine hr_aload_n hC dX21_declare_63 rfl ?_
          refine hr_gA hC F23_24 rfl dX21_declare_64 q2866 ?_
          refine hr_iload_n hC dX21_declare_67 rfl ?_
          refine hr_aload_n hC dX21_declare_68 rfl ?_
          refine hr_aload_n hC dX21_declare_69 rfl ?_
          refine hr_gA hC F23_26 rfl dX21_declare_70 q2868 ?_
          refine hr_iload_n hC dX21_declare_73 rfl ?_
          obtain ⟨c74, h⟩ := hk_ok h
          refine hs_iald hC A23_26 c74 dX21_declare_74 ?_
          refine hr_iconst (v := 1) hC dX21_declare_75 rfl ?_
          obtain ⟨v77, hv77, h⟩ := hl_ok h
          have J96 : ∀ w97 : Int32, (if (gC σ73 23 26 y1) = 1 then 3 else 2) = w97 → hc_At hc_V0 E 5 X 84 [(0, .ref (E.2.1 23)), (1, .int y1), (2, .int y2), (3, .int y3), (4, .int (gC σ 23 19 y3))] [.int w97, .ref (E.2.1 23), .int y3, .ref (am1 23 24)] σ73 am1 [] := by
            intro w97 hw97
            obtain rfl := hv77.trans hw97
            refine hr_aload_n hC dX21_declare_84 rfl ?_
            refine hr_gI hC F23_63 dX21_declare_85 q2904 ?_
            obtain ⟨r78, e79, h⟩ := hx_bind h
            refine hs_callV0 hC 23 [_, _] _ dX21_declare_88 q3414 q3416 qs240 q335 q3417 np_X21 rfl OB_23 pd_X21_lay (Nat.le_of_ble_eq_true rfl) hd1 (okX21_lay l E A (d - 1)  (by omega)  e79 am1) rfl ?_
            obtain ⟨c82, h⟩ := hk_ok h
            obtain ⟨σ83, hσ83, h⟩ := hl_ok h
            refine hs_iast hC A23_24 c82 dX21_declare_91 ?_
            rw [← hσ83]
            refine hr_aload_n hC dX21_declare_92 rfl ?_
            refine hr_iload hC dX21_declare_93 rfl ?_
            refine hr_aload_n hC dX21_declare_95 rfl ?_
            refine hr_gA hC F23_26 rfl dX21_declare_96 q2868 ?_
            refine hr_iload_n hC dX21_declare_99 rfl ?_
            obtain ⟨c84, h⟩ := hk_ok h
            refine hs_iald hC A23_26 c84 dX21_declare_100 ?_
            refine hr_iconst (v := 1) hC dX21_declare_101 rfl ?_
            obtain ⟨v87, hv87, h⟩ := hl_ok h
            have J93 : ∀ w94 : Int32, (if (gC σ83 23 26 y1) = 1 then 3 else 2) = w94 → hc_At hc_V0 E 5 X 110 [(0, .ref (E.2.1 23)), (1, .int y1), (2, .int y2), (3, .int y3)] [.int w94, .int (gC σ 23 19 y3), .ref (E.2.1 23)] σ83 am1 [] := by
              intro w94 hw94
              obtain rfl := hv87.trans hw94
              refine hr_iconst (v := 0) hC dX21_declare_110 rfl ?_
              refine hr_aload_n hC dX21_declare_111 rfl ?_
              refine hr_gA hC F23_24 rfl dX21_declare_112 q2866 ?_
              refine hr_iload_n hC dX21_declare_115 rfl ?_
              obtain ⟨c88, h⟩ := hk_ok h
              refine hs_iald hC A23_24 c88 dX21_declare_116 ?_
              obtain ⟨r89, e90, h⟩ := hx_bind h
              refine hs_callV0 hC 23 [_, _, _, _] _ dX21_declare_117 q3418 q3420 qs241 q335 q3421 np_X21 rfl OB_23 pd_X21_know (Nat.le_of_ble_eq_true rfl) hd1 (okX21_know l E A (d - 1)  (by omega)  e90 am1) rfl ?_
              refine hr_goto hC 223 dX21_declare_120 (by decide) ?_
              obtain rfl := Option.some.inj h
              exact hr_sub _ rfl (J14)
            refine hr_icmp_ne (x := _) hC 109 dX21_declare_102 (by decide) (fun c95 => ?_) (fun c95 => ?_)
            · refine hr_iconst (v := 2) hC dX21_declare_109 rfl ?_
              exact hr_sub _ rfl (J93 _ (by first | (rw [if_neg c95]; done) | (simp only [if_neg c95]; done) | rfl))
            · refine hr_iconst (v := 3) hC dX21_declare_105 rfl ?_
              refine hr_goto hC 110 dX21_declare_106 (by decide) ?_
              exact hr_sub _ rfl (J93 _ (by first | (rw [if_pos c95]; done) | (simp only [if_pos c95]; done) | rfl))
          refine hr_icmp_ne (x := _) hC 83 dX21_declare_76 (by decide) (fun c98 => ?_) (fun c98 => ?_)
          · refine hr_iconst (v := 2) hC dX21_declare_83 rfl ?_
            exact hr_sub _ rfl (J96 _ (by first | (rw [if_neg c98]; done) | (simp only [if_neg c98]; done) | rfl))
          · refine hr_iconst (v := 3) hC dX21_declare_79 rfl ?_
            refine hr_goto hC 84 dX21_declare_80 (by decide) ?_
            exact hr_sub _ rfl (J96 _ (by first | (rw [if_pos c98]; done) | (simp only [if_pos c98]; done) | rfl))
        refine hr_icmp_ne (x := _) hC 55 dX21_declare_48 (by decide) (fun c101 => ?_) (fun c101 => ?_)
        · refine hr_iconst (v := 0) hC dX21_declare_55 rfl ?_
          exact hr_sub _ rfl (J99 _ (by first | (rw [if_neg c101]; done) | (simp only [if_neg c101]; done) | rfl))
        · refine hr_iconst (v := 1) hC dX21_declare_51 rfl ?_
          refine hr_goto hC 56 dX21_declare_52 (by decide) ?_
          exact hr_sub _ rfl (J99 _ (by first | (rw [if_pos c101]; done) | (simp only [if_pos c101]; done) | rfl))
set_option maxRecDepth 20000 in
set_option maxHeartbeats 4000000 in
theorem okX21_declare (l : Launch) (E : hc_E) (A : Nat → Prop) (d : Nat) (n : Nat) (k0 : Nat) (hD : 2 * k0 + 16 ≤ d) {x1 : Int32} {x2 : Int32} {σ : hc_St} {r : hc_St} (h : fm_X21_declare n k0 x1 x2 σ = some r) (am : Nat → Nat → Nat) : hc_M l hc_V0 yX21_declare (ws_ yX21_declare cX21_declare 5 none) d E A [.ref (E.2.1 23), .int x1, .int x2] am [] σ (.inl none) r := by
  have hd1 : 1 ≤ d := by omega
  have hd8 : 9 ≤ d := by omega
  have hd12 : 12 ≤ d := by omega
  refine hc_enter2 (own := RX21) [(0, .ref (E.2.1 23)), (1, .int x1), (2, .int x2)] pl_X21 rfl hc_V0_st hc_G0_nd rfl (Nat.le_of_ble_eq_true rfl) (fun X hC hem => ?_)
  unfold fm_X21_declare at h
  refine hr_aload_n hC dX21_declare_0 rfl ?_
  refine hr_gA hC F23_21 rfl dX21_declare_1 q2863 ?_
  refine hr_iload_n hC dX21_declare_4 rfl ?_
  obtain ⟨c1, h⟩ := hk_ok h
  refine hs_iald hC A23_21 c1 dX21_declare_5 ?_
  refine hr_istore_n hC dX21_declare_6 (by decide) ?_
  obtain ⟨r103, e104, h⟩ := hx_bind h
  refine hr_sub _ rfl (ll_X21_declare_7 n k0 hD hem hC n _ _ _ _ _ am e104 ?_)
  obtain rfl := Option.some.inj h
  exact hr_vret hC dX21_declare_233
/-- HomeCompilerModel.checkReturn(I)V -/
def fm_X21_checkReturn (n : Nat) (k0 : Nat) (x1 : Int32) (σ : hc_St) : Option hc_St := hk (inb ((gI σ 23 48)) (gL σ 23 26)) <| hl (α := Int32) ((if (gC σ 23 26 ((gI σ 23 48))) = 2 then 1 else 0)) fun v4 => hk (inb x1 (gL σ 23 21)) <| hl (α := Int32) ((if (gC σ 23 21 x1) < 0 then 0 else 1)) fun v8 => Option.bind (α := hc_St) (if v4 = v8 then (hk (inb x1 (gL σ 23 19)) <| Option.bind (fm_X21_bad 11 ((gC σ 23 19 x1)) σ) fun r16 => some (r16)) else (some (σ))) fun r11 => hk (inb x1 (gL r11 23 21)) <| Option.bind (α := hc_St) (if (gC r11 23 21 x1) < 0 then (some (r11)) else (hk (inb x1 (gL r11 23 21)) <| Option.bind (fm_X21_check n k0 ((gC r11 23 21 x1)) 1 r11) fun r28 => some (r28.2))) fun r23 => some r23
set_option maxRecDepth 20000 in
set_option maxHeartbeats 4000000 in
theorem okX21_checkReturn (l : Launch) (E : hc_E) (A : Nat → Prop) (d : Nat) (n : Nat) (k0 : Nat) (hD : 2 * k0 + 15 ≤ d) {x1 : Int32} {σ : hc_St} {r : hc_St} (h : fm_X21_checkReturn n k0 x1 σ = some r) (am : Nat → Nat → Nat) : hc_M l hc_V0 yX21_checkReturn (ws_ yX21_checkReturn cX21_checkReturn 3 none) d E A [.ref (E.2.1 23), .int x1] am [] σ (.inl none) r := by
  have hd1 : 1 ≤ d := by omega
  have hd8 : 9 ≤ d := by omega
  have hd12 : 12 ≤ d := by omega
  refine hc_enter2 (own := RX21) [(0, .ref (E.2.1 23)), (1, .int x1)] pl_X21 rfl hc_V0_st hc_G0_nd rfl (Nat.le_of_ble_eq_true rfl) (fun X hC hem => ?_)
  unfold fm_X21_checkReturn at h
  refine hr_aload_n hC dX21_checkReturn_0 rfl ?_
  refine hr_gA hC F23_26 rfl dX21_checkReturn_1 q2868 ?_
  refine hr_aload_n hC dX21_checkReturn_4 rfl ?_
  refine hr_gI hC F23_48 dX21_checkReturn_5 q2889 ?_
  obtain ⟨c1, h⟩ := hk_ok h
  refine hs_iald hC A23_26 c1 dX21_checkReturn_8 ?_
  refine hr_iconst (v := 2) hC dX21_checkReturn_9 rfl ?_
  obtain ⟨v4, hv4, h⟩ := hl_ok h
  have J35 : ∀ w36 : Int32, (if (gC σ 23 26 ((gI σ 23 48))) = 2 then 1 else 0) = w36 → hc_At hc_V0 E 3 X 18 [(0, .ref (E.2.1 23)), (1, .int x1)] [.int w36] σ am [] := by
    intro w36 hw36
    obtain rfl := hv4.trans hw36
    refine hr_istore_n hC dX21_checkReturn_18 (by decide) ?_
    refine hr_iload_n hC dX21_checkReturn_19 rfl ?_
    refine hr_aload_n hC dX21_checkReturn_20 rfl ?_
    refine hr_gA hC F23_21 rfl dX21_checkReturn_21 q2863 ?_
    refine hr_iload_n hC dX21_checkReturn_24 rfl ?_
    obtain ⟨c5, h⟩ := hk_ok h
    refine hs_iald hC A23_21 c5 dX21_checkReturn_25 ?_
    obtain ⟨v8, hv8, h⟩ := hl_ok h
    have J32 : ∀ w33 : Int32, (if (gC σ 23 21 x1) < 0 then 0 else 1) = w33 → hc_At hc_V0 E 3 X 34 [(0, .ref (E.2.1 23)), (1, .int x1)] [.int w33, .int v4] σ am [] := by
      intro w33 hw33
      obtain rfl := hv8.trans hw33
      obtain ⟨r11, e12, h⟩ := hx_bind h
      have J13 : hc_At hc_V0 E 3 X 49 [(0, .ref (E.2.1 23)), (1, .int x1)] [] r11 am [] := by
        refine hr_aload_n hC dX21_checkReturn_49 rfl ?_
        refine hr_gA hC F23_21 rfl dX21_checkReturn_50 q2863 ?_
        refine hr_iload_n hC dX21_checkReturn_53 rfl ?_
        obtain ⟨c20, h⟩ := hk_ok h
        refine hs_iald hC A23_21 c20 dX21_checkReturn_54 ?_
        obtain ⟨r23, e24, h⟩ := hx_bind h
        have J25 : hc_At hc_V0 E 3 X 70 [] [] r23 am [] := by
          obtain rfl := Option.some.inj h
          exact hr_vret hC dX21_checkReturn_70
        clear h
        have h := e24
        refine hr_if_lt (x := _) hC 70 dX21_checkReturn_55 (by decide) (fun c22 => ?_) (fun c22 => ?_)
        · rw [if_pos c22] at h
          obtain rfl := Option.some.inj h
          exact hr_sub _ rfl (J25)
        · rw [if_neg c22] at h
          refine hr_aload_n hC dX21_checkReturn_58 rfl ?_
          refine hr_aload_n hC dX21_checkReturn_59 rfl ?_
          refine hr_gA hC F23_21 rfl dX21_checkReturn_60 q2863 ?_
          refine hr_iload_n hC dX21_checkReturn_63 rfl ?_
          obtain ⟨c27, h⟩ := hk_ok h
          refine hs_iald hC A23_21 c27 dX21_checkReturn_64 ?_
          refine hr_iconst (v := 1) hC dX21_checkReturn_65 rfl ?_
          obtain ⟨r28, e29, h⟩ := hx_bind h
          refine hs_callV0 hC 23 [_, _] _ dX21_checkReturn_66 q3442 q3444 qs247 q335 q3445 np_X21 rfl OB_23 pd_X21_check (Nat.le_of_ble_eq_true rfl) hd1 (okX21_check l E A (d - 1) n k0 (by omega)  e29 am) rfl ?_
          refine hr_pop hC dX21_checkReturn_69 rfl ?_
          obtain rfl := Option.some.inj h
          exact hr_sub _ rfl (J25)
      clear h
      have h := e12
      refine hr_icmp_ne (x := _) hC 49 dX21_checkReturn_34 (by decide) (fun c10 => ?_) (fun c10 => ?_)
      · rw [if_neg c10] at h
        obtain rfl := Option.some.inj h
        exact hr_sub _ rfl (J13)
      · rw [if_pos c10] at h
        refine hr_aload_n hC dX21_checkReturn_37 rfl ?_
        refine hr_bipush (v := 11) hC dX21_checkReturn_38 rfl ?_
        refine hr_aload_n hC dX21_checkReturn_40 rfl ?_
        refine hr_gA hC F23_19 rfl dX21_checkReturn_41 q2861 ?_
        refine hr_iload_n hC dX21_checkReturn_44 rfl ?_
        obtain ⟨c15, h⟩ := hk_ok h
        refine hs_iald hC A23_19 c15 dX21_checkReturn_45 ?_
        obtain ⟨r16, e17, h⟩ := hx_bind h
        refine hs_callV0 hC 23 [_, _] _ dX21_checkReturn_46 q3398 q3400 qs236 q335 q3401 np_X21 rfl OB_23 pd_X21_bad (Nat.le_of_ble_eq_true rfl) hd1 (okX21_bad l E A (d - 1)  (by omega)  e17 am) rfl ?_
        obtain rfl := Option.some.inj h
        exact hr_sub _ rfl (J13)
    refine hr_if_lt (x := _) hC 33 dX21_checkReturn_26 (by decide) (fun c34 => ?_) (fun c34 => ?_)
    · refine hr_iconst (v := 0) hC dX21_checkReturn_33 rfl ?_
      exact hr_sub _ rfl (J32 _ (by first | (rw [if_pos c34]; done) | (simp only [if_pos c34]; done) | rfl))
    · refine hr_iconst (v := 1) hC dX21_checkReturn_29 rfl ?_
      refine hr_goto hC 34 dX21_checkReturn_30 (by decide) ?_
      exact hr_sub _ rfl (J32 _ (by first | (rw [if_neg c34]; done) | (simp only [if_neg c34]; done) | rfl))
  refine hr_icmp_ne (x := _) hC 17 dX21_checkReturn_10 (by decide) (fun c37 => ?_) (fun c37 => ?_)
  · refine hr_iconst (v := 0) hC dX21_checkReturn_17 rfl ?_
    exact hr_sub _ rfl (J35 _ (by first | (rw [if_neg c37]; done) | (simp only [if_neg c37]; done) | rfl))
  · refine hr_iconst (v := 1) hC dX21_checkReturn_13 rfl ?_
    refine hr_goto hC 18 dX21_checkReturn_14 (by decide) ?_
    exact hr_sub _ rfl (J35 _ (by first | (rw [if_pos c37]; done) | (simp only [if_pos c37]; done) | rfl))
