set_option maxRecDepth 20000
def okg_X13_value (l : Launch) (E : hc_E) (A : Nat → Prop) (d : Nat) (am : Nat → Nat → Nat) (w : Nat) (a : List Int32) (σ : hc_St) (r : (Int32 × hc_St)) : Prop := match w with
  | 0 => hc_M l hc_V0 yX13_value (ws_ yX13_value cX13_value 4 (some .int)) d E A [.ref (E.2.1 14), .int (a.getD 0 0), .int (a.getD 1 0)] am [13] σ (.inl (some (.int r.1))) r.2
  | 1 => hc_M l hc_V0 yX13_call (ws_ yX13_call cX13_call 9 (some .int)) d E A [.ref (E.2.1 14), .int (a.getD 0 0), .int (a.getD 1 0)] am [13] σ (.inl (some (.int r.1))) r.2
  | 2 => hc_M l hc_V0 yX13_own (ws_ yX13_own cX13_own 8 (some .int)) d E A [.ref (E.2.1 14), .int (a.getD 0 0), .int (a.getD 1 0), .int (a.getD 2 0)] am [13] σ (.inl (some (.int r.1))) r.2
  | 3 => hc_M l hc_V0 yX13_set (ws_ yX13_set cX13_set 10 (some .int)) d E A [.ref (E.2.1 14), .int (a.getD 0 0), .int (a.getD 1 0), .int (a.getD 2 0)] am [13] σ (.inl (some (.int r.1))) r.2
  | 4 => hc_M l hc_V0 yX13_count (ws_ yX13_count cX13_count 8 (some .int)) d E A [.ref (E.2.1 14), .int (a.getD 0 0), .int (a.getD 1 0), .int (a.getD 2 0)] am [13] σ (.inl (some (.int r.1))) r.2
  | 5 => hc_M l hc_V0 yX13_unary (ws_ yX13_unary cX13_unary 6 (some .int)) d E A [.ref (E.2.1 14), .int (a.getD 0 0), .int (a.getD 1 0), .int (a.getD 2 0)] am [13] σ (.inl (some (.int r.1))) r.2
  | 6 => hc_M l hc_V0 yX13_choice (ws_ yX13_choice cX13_choice 8 (some .int)) d E A [.ref (E.2.1 14), .int (a.getD 0 0), .int (a.getD 1 0)] am [13] σ (.inl (some (.int r.1))) r.2
  | 7 => hc_M l hc_V0 yX13_branch (ws_ yX13_branch cX13_branch 8 none) d E A [.ref (E.2.1 14), .int (a.getD 0 0), .int (a.getD 1 0), .int (a.getD 2 0), .int (a.getD 3 0)] am [13] σ (.inl (none)) r.2
  | 8 => hc_M l hc_V0 yX13_decide (ws_ yX13_decide cX13_decide 11 none) d E A [.ref (E.2.1 14), .int (a.getD 0 0), .int (a.getD 1 0), .int (a.getD 2 0), .int (a.getD 3 0), .int (a.getD 4 0)] am [13] σ (.inl (none)) r.2
  | 9 => hc_M l hc_V0 yX13_compared (ws_ yX13_compared cX13_compared 14 none) d E A [.ref (E.2.1 14), .int (a.getD 0 0), .int (a.getD 1 0), .int (a.getD 2 0), .int (a.getD 3 0)] am [13] σ (.inl (none)) r.2
  | 10 => hc_M l hc_V0 yX13_truth (ws_ yX13_truth cX13_truth 5 (some .int)) d E A [.ref (E.2.1 14), .int (a.getD 0 0), .int (a.getD 1 0)] am [13] σ (.inl (some (.int r.1))) r.2
  | 11 => hc_M l hc_V0 yX13_chain (ws_ yX13_chain cX13_chain 9 (some .int)) d E A [.ref (E.2.1 14), .int (a.getD 0 0), .int (a.getD 1 0)] am [13] σ (.inl (some (.int r.1))) r.2
  | _ => True
/-- HomeCompiler$Generator.value(II)I -/
def bd_X13_value (n : Nat) (k0 : Nat) (rec : Nat → List Int32 → hc_St → Option (Int32 × hc_St)) (x1 : Int32) (x2 : Int32) (σ : hc_St) : Option (Int32 × hc_St) := Option.bind (fm_X14_isNumber n k0 x1 σ) fun r1 => if r1.1 = 0 then (Option.bind (fm_X6_first x1 r1.2) fun r7 => Option.bind (fm_X6_kind x1 r1.2) fun r11 => if r11 = 30 then (Option.bind (rec 3 [x1, r7, x2] r1.2) fun r34 => some (r34.1, r34.2)) else if r11 = 31 then (Option.bind (rec 6 [r7, x2] r1.2) fun r38 => some (r38.1, r38.2)) else if r11 = 34 then (Option.bind (fm_X6_op x1 r1.2) fun r42 => Option.bind (rec 5 [r42, r7, x2] r1.2) fun r46 => some (r46.1, r46.2)) else if r11 = 35 then (Option.bind (rec 4 [x1, r7, x2] r1.2) fun r50 => some (r50.1, r50.2)) else if r11 = 36 then (Option.bind (rec 4 [x1, r7, x2] r1.2) fun r54 => some (r54.1, r54.2)) else if r11 = 38 then (Option.bind (fm_X6_extra x1 r1.2) fun r58 => Option.bind (fm_X13_name r58 x2 r1.2) fun r62 => some (r62.1, r62.2)) else if r11 = 39 then (Option.bind (rec 1 [x1, x2] r1.2) fun r66 => some (r66.1, r66.2)) else if r11 = 40 then (Option.bind (fm_X6_extra x1 r1.2) fun r70 => Option.bind (rec 0 [r7, x2] r1.2) fun r74 => Option.bind (fm_X13_reach r70 r74.1 r74.2) fun r78 => Option.bind (fm_X6_extra x1 r78) fun r82 => Option.bind (fm_X13_dest x2 r78) fun r86 => Option.bind (fm_X13_loadElement r82 r86 r78) fun r90 => Option.bind (fm_X13_keep x2 r90) fun r94 => some (r94.1, r94.2)) else (Option.bind (fm_X6_value x1 r1.2) fun r15 => Option.bind (α := hc_St × Int32) (if 3 ≤ r15 then (Option.bind (rec 11 [r7, x2] r1.2) fun r25 => some (r25.2, r25.1)) else (Option.bind (rec 10 [x1, x2] r1.2) fun r29 => some (r29.2, r29.1))) fun r21 => some (r21.2, r21.1))) else (Option.bind (fm_X14_value  r1.2) fun r106 => if r106 = 0 then (some (0, r1.2)) else (Option.bind (fm_X13_dest x2 r1.2) fun r112 => Option.bind (fm_X14_value  r1.2) fun r116 => Option.bind (fm_X12_set r112 r116 r1.2) fun r120 => Option.bind (fm_X13_keep x2 r120) fun r124 => some (r124.1, r124.2)))
set_option maxRecDepth 20000 in
set_option maxHeartbeats 4000000 in
theorem okbX13_value (l : Launch) (E : hc_E) (A : Nat → Prop) (d : Nat) {kk : Nat} (n : Nat) (k0 : Nat) (rec : Nat → List Int32 → hc_St → Option (Int32 × hc_St)) (hD : kk + 1 * k0 + 13 ≤ d) (IH : ∀ (w : Nat) (a : List Int32) (σ : hc_St) (r : (Int32 × hc_St)), rec w a σ = some r → ∀ am, okg_X13_value l E A (d - 1) am w a σ r) {x1 : Int32} {x2 : Int32} {σ : hc_St} {r : (Int32 × hc_St)} (h : bd_X13_value n k0 rec x1 x2 σ = some r) (am : Nat → Nat → Nat) : hc_M l hc_V0 yX13_value (ws_ yX13_value cX13_value 4 (some .int)) d E A [.ref (E.2.1 14), .int x1, .int x2] am [13] σ (.inl (some (.int r.1))) r.2 := by
  have hd1 : 1 ≤ d := by omega
  have hd8 : 9 ≤ d := by omega
  have hd12 : 12 ≤ d := by omega
  refine hc_enter2 (own := RX13) [(0, .ref (E.2.1 14)), (1, .int x1), (2, .int x2)] pl_X13 rfl hc_V0_st hc_G0_nd rfl (Nat.le_of_ble_eq_true rfl) (fun X hC hem => ?_)
  unfold bd_X13_value at h
  refine hr_aload_n hC dX13_value_0 rfl ?_
  refine hr_gO 15 hC F14_6 rfl dX13_value_1 q801 ?_
  refine hr_iload_n hC dX13_value_4 rfl ?_
  obtain ⟨r1, e2, h⟩ := hx_bind h
  refine hs_callV0 hC 15 [_] _ dX13_value_5 q2105 q2106 q2107 q328 q2108 np_X14 rfl OB_15 pd_X14_isNumber (Nat.le_of_ble_eq_true rfl) hd1 (okX14_isNumber l E A (d - 1) n k0 (by omega)  e2 am) rfl ?_
  refine hr_if_eq (x := _) hC 48 dX13_value_8 (by decide) (fun c6 => ?_) (fun c6 => ?_)
  · rw [if_pos c6] at h
    refine hr_aload_n hC dX13_value_48 rfl ?_
    refine hr_gO 6 hC F14_0 rfl dX13_value_49 q795 ?_
    refine hr_iload_n hC dX13_value_52 rfl ?_
    obtain ⟨r7, e8, h⟩ := hx_bind h
    refine hs_callV0 hC 6 [_] _ dX13_value_53 q2048 q1576 q1577 q320 q1578 np_X6 rfl OB_6 pd_X6_first (Nat.le_of_ble_eq_true rfl) hd1 (okX6_first l E A (d - 1)  (by omega)  e8 am) rfl ?_
    refine hr_istore_n hC dX13_value_56 (by decide) ?_
    refine hr_aload_n hC dX13_value_57 rfl ?_
    refine hr_gO 6 hC F14_0 rfl dX13_value_58 q795 ?_
    refine hr_iload_n hC dX13_value_61 rfl ?_
    obtain ⟨r11, e12, h⟩ := hx_bind h
    refine hs_callV0 hC 6 [_] _ dX13_value_62 q2049 q1369 q1370 q320 q1371 np_X6 rfl OB_6 pd_X6_kind (Nat.le_of_ble_eq_true rfl) hd1 (okX6_kind l E A (d - 1)  (by omega)  e12 am) rfl ?_
    by_cases c98 : r11 = 30
    · rw [if_pos c98] at h
      refine hr_tableIn hC 186 dX13_value_65 (by rw [c98] <;> decide) (by rw [c98] <;> decide) (by rw [c98] <;> rfl) (by decide) ?_
      refine hr_aload_n hC dX13_value_186 rfl ?_
      refine hr_iload_n hC dX13_value_187 rfl ?_
      refine hr_iload_n hC dX13_value_188 rfl ?_
      refine hr_iload_n hC dX13_value_189 rfl ?_
      obtain ⟨r34, e35, h⟩ := hx_bind h
      refine hs_callV hC 14 [_, _, _] _ dX13_value_190 q2227 q2229 qs132 q327 q2230 np_X13 rfl OB_14 pd_X13_set (Nat.le_of_ble_eq_true rfl) hd1 (IH _ _ _ _ e35 am) (hc_rb rfl) rfl (fun am36 ha37 => ?_)
      obtain rfl := Option.some.inj h
      exact hr_iret hC dX13_value_193
    rw [if_neg c98] at h
    by_cases c99 : r11 = 31
    · rw [if_pos c99] at h
      refine hr_tableIn hC 217 dX13_value_65 (by rw [c99] <;> decide) (by rw [c99] <;> decide) (by rw [c99] <;> rfl) (by decide) ?_
      refine hr_aload_n hC dX13_value_217 rfl ?_
      refine hr_iload_n hC dX13_value_218 rfl ?_
      refine hr_iload_n hC dX13_value_219 rfl ?_
      obtain ⟨r38, e39, h⟩ := hx_bind h
      refine hs_callV hC 14 [_, _] _ dX13_value_220 q2266 q2268 qs141 q327 q2269 np_X13 rfl OB_14 pd_X13_choice (Nat.le_of_ble_eq_true rfl) hd1 (IH _ _ _ _ e39 am) (hc_rb rfl) rfl (fun am40 ha41 => ?_)
      obtain rfl := Option.some.inj h
      exact hr_iret hC dX13_value_223
    rw [if_neg c99] at h
    by_cases c100 : r11 = 34
    · rw [if_pos c100] at h
      refine hr_tableIn hC 202 dX13_value_65 (by rw [c100] <;> decide) (by rw [c100] <;> decide) (by rw [c100] <;> rfl) (by decide) ?_
      refine hr_aload_n hC dX13_value_202 rfl ?_
      refine hr_aload_n hC dX13_value_203 rfl ?_
      refine hr_gO 6 hC F14_0 rfl dX13_value_204 q795 ?_
      refine hr_iload_n hC dX13_value_207 rfl ?_
      obtain ⟨r42, e43, h⟩ := hx_bind h
      refine hs_callV0 hC 6 [_] _ dX13_value_208 q1978 q1639 q1640 q320 q1641 np_X6 rfl OB_6 pd_X6_op (Nat.le_of_ble_eq_true rfl) hd1 (okX6_op l E A (d - 1)  (by omega)  e43 am) rfl ?_
      refine hr_iload_n hC dX13_value_211 rfl ?_
      refine hr_iload_n hC dX13_value_212 rfl ?_
      obtain ⟨r46, e47, h⟩ := hx_bind h
      refine hs_callV hC 14 [_, _, _] _ dX13_value_213 q2262 q2264 qs140 q327 q2265 np_X13 rfl OB_14 pd_X13_unary (Nat.le_of_ble_eq_true rfl) hd1 (IH _ _ _ _ e47 am) (hc_rb rfl) rfl (fun am48 ha49 => ?_)
      obtain rfl := Option.some.inj h
      exact hr_iret hC dX13_value_216
    rw [if_neg c100] at h
    by_cases c101 : r11 = 35
    · rw [if_pos c101] at h
      refine hr_tableIn hC 194 dX13_value_65 (by rw [c101] <;> decide) (by rw [c101] <;> decide) (by rw [c101] <;> rfl) (by decide) ?_
      refine hr_aload_n hC dX13_value_194 rfl ?_
      refine hr_iload_n hC dX13_value_195 rfl ?_
      refine hr_iload_n hC dX13_value_196 rfl ?_
      refine hr_iload_n hC dX13_value_197 rfl ?_
      obtain ⟨r50, e51, h⟩ := hx_bind h
      refine hs_callV hC 14 [_, _, _] _ dX13_value_198 q2254 q2256 qs138 q327 q2257 np_X13 rfl OB_14 pd_X13_count (Nat.le_of_ble_eq_true rfl) hd1 (IH _ _ _ _ e51 am) (hc_rb rfl) rfl (fun am52 ha53 => ?_)
      obtain rfl := Option.some.inj h
      exact hr_iret hC dX13_value_201
    rw [if_neg c101] at h
    by_cases c102 : r11 = 36
    · rw [if_pos c102] at h
      refine hr_tableIn hC 194 dX13_value_65 (by rw [c102] <;> decide) (by rw [c102] <;> decide) (by rw [c102] <;> rfl) (by decide) ?_
      refine hr_aload_n hC dX13_value_194 rfl ?_
      refine hr_iload_n hC dX13_value_195 rfl ?_
      refine hr_iload_n hC dX13_value_196 rfl ?_
      refine hr_iload_n hC dX13_value_197 rfl ?_
      obtain ⟨r54, e55, h⟩ := hx_bind h
      refine hs_callV hC 14 [_, _, _] _ dX13_value_198 q2254 q2256 qs138 q327 q2257 np_X13 rfl OB_14 pd_X13_count (Nat.le_of_ble_eq_true rfl) hd1 (IH _ _ _ _ e55 am) (hc_rb rfl) rfl (fun am56 ha57 => ?_)
      obtain rfl := Option.some.inj h
      exact hr_iret hC dX13_value_201
    rw [if_neg c102] at h
    by_cases c103 : r11 = 38
    · rw [if_pos c103] at h
      refine hr_tableIn hC 124 dX13_value_65 (by rw [c103] <;> decide) (by rw [c103] <;> decide) (by rw [c103] <;> rfl) (by decide) ?_
      refine hr_aload_n hC dX13_value_124 rfl ?_
      refine hr_aload_n hC dX13_value_125 rfl ?_
      refine hr_gO 6 hC F14_0 rfl dX13_value_126 q795 ?_
      refine hr_iload_n hC dX13_value_129 rfl ?_
      obtain ⟨r58, e59, h⟩ := hx_bind h
      refine hs_callV0 hC 6 [_] _ dX13_value_130 q2043 q1687 q1688 q320 q1689 np_X6 rfl OB_6 pd_X6_extra (Nat.le_of_ble_eq_true rfl) hd1 (okX6_extra l E A (d - 1)  (by omega)  e59 am) rfl ?_
      refine hr_iload_n hC dX13_value_133 rfl ?_
      obtain ⟨r62, e63, h⟩ := hx_bind h
      refine hs_callV hC 14 [_, _] _ dX13_value_134 q2154 q2156 qs118 q327 q2157 np_X13 rfl OB_14 pd_X13_name (Nat.le_of_ble_eq_true rfl) hd1 (okX13_name l E A (d - 1)  (by omega)  e63 am) (hc_rb rfl) rfl (fun am64 ha65 => ?_)
      obtain rfl := Option.some.inj h
      exact hr_iret hC dX13_value_137
    rw [if_neg c103] at h
    by_cases c104 : r11 = 39
    · rw [if_pos c104] at h
      refine hr_tableIn hC 179 dX13_value_65 (by rw [c104] <;> decide) (by rw [c104] <;> decide) (by rw [c104] <;> rfl) (by decide) ?_
      refine hr_aload_n hC dX13_value_179 rfl ?_
      refine hr_iload_n hC dX13_value_180 rfl ?_
      refine hr_iload_n hC dX13_value_181 rfl ?_
      obtain ⟨r66, e67, h⟩ := hx_bind h
      refine hs_callV hC 14 [_, _] _ dX13_value_182 q2185 q2187 qs125 q327 q2188 np_X13 rfl OB_14 pd_X13_call (Nat.le_of_ble_eq_true rfl) hd1 (IH _ _ _ _ e67 am) (hc_rb rfl) rfl (fun am68 ha69 => ?_)
      obtain rfl := Option.some.inj h
      exact hr_iret hC dX13_value_185
    rw [if_neg c104] at h
    by_cases c105 : r11 = 40
    · rw [if_pos c105] at h
      refine hr_tableIn hC 138 dX13_value_65 (by rw [c105] <;> decide) (by rw [c105] <;> decide) (by rw [c105] <;> rfl) (by decide) ?_
      refine hr_aload_n hC dX13_value_138 rfl ?_
      refine hr_aload_n hC dX13_value_139 rfl ?_
      refine hr_gO 6 hC F14_0 rfl dX13_value_140 q795 ?_
      refine hr_iload_n hC dX13_value_143 rfl ?_
      obtain ⟨r70, e71, h⟩ := hx_bind h
      refine hs_callV0 hC 6 [_] _ dX13_value_144 q2043 q1687 q1688 q320 q1689 np_X6 rfl OB_6 pd_X6_extra (Nat.le_of_ble_eq_true rfl) hd1 (okX6_extra l E A (d - 1)  (by omega)  e71 am) rfl ?_
      refine hr_aload_n hC dX13_value_147 rfl ?_
      refine hr_iload_n hC dX13_value_148 rfl ?_
      refine hr_iload_n hC dX13_value_149 rfl ?_
      obtain ⟨r74, e75, h⟩ := hx_bind h
      refine hs_callV hC 14 [_, _] _ dX13_value_150 q2101 q2103 qs112 q327 q2104 np_X13 rfl OB_14 pd_X13_value (Nat.le_of_ble_eq_true rfl) hd1 (IH _ _ _ _ e75 am) (hc_rb rfl) rfl (fun am76 ha77 => ?_)
      obtain ⟨r78, e79, h⟩ := hx_bind h
      refine hs_callV hC 14 [_, _] _ dX13_value_153 q2163 q2165 qs120 q327 q2166 np_X13 rfl OB_14 pd_X13_reach (Nat.le_of_ble_eq_true rfl) hd1 (okX13_reach l E A (d - 1)  (by omega)  e79 am76) (hc_rb rfl) rfl (fun am80 ha81 => ?_)
      refine hr_aload_n hC dX13_value_156 rfl ?_
      refine hr_aload_n hC dX13_value_157 rfl ?_
      refine hr_gO 6 hC F14_0 rfl dX13_value_158 q795 ?_
      refine hr_iload_n hC dX13_value_161 rfl ?_
      obtain ⟨r82, e83, h⟩ := hx_bind h
      refine hs_callV0 hC 6 [_] _ dX13_value_162 q2043 q1687 q1688 q320 q1689 np_X6 rfl OB_6 pd_X6_extra (Nat.le_of_ble_eq_true rfl) hd1 (okX6_extra l E A (d - 1)  (by omega)  e83 am80) rfl ?_
      refine hr_aload_n hC dX13_value_165 rfl ?_
      refine hr_iload_n hC dX13_value_166 rfl ?_
      obtain ⟨r86, e87, h⟩ := hx_bind h
      refine hs_callV0 hC 14 [_] _ dX13_value_167 q2135 q2137 qs115 q327 q2138 np_X13 rfl OB_14 pd_X13_dest (Nat.le_of_ble_eq_true rfl) hd1 (okX13_dest l E A (d - 1)  (by omega)  e87 am80) rfl ?_
      obtain ⟨r90, e91, h⟩ := hx_bind h
      refine hs_callV hC 14 [_, _] _ dX13_value_170 q2181 q2183 qs124 q327 q2184 np_X13 rfl OB_14 pd_X13_loadElement (Nat.le_of_ble_eq_true rfl) hd1 (okX13_loadElement l E A (d - 1)  (by omega)  e91 am80) (hc_rb rfl) rfl (fun am92 ha93 => ?_)
      refine hr_aload_n hC dX13_value_173 rfl ?_
      refine hr_iload_n hC dX13_value_174 rfl ?_
      obtain ⟨r94, e95, h⟩ := hx_bind h
      refine hs_callV hC 14 [_] _ dX13_value_175 q2142 q2144 qs116 q327 q2145 np_X13 rfl OB_14 pd_X13_keep (Nat.le_of_ble_eq_true rfl) hd1 (okX13_keep l E A (d - 1)  (by omega)  e95 am92) (hc_rb rfl) rfl (fun am96 ha97 => ?_)
      obtain rfl := Option.some.inj h
      exact hr_iret hC dX13_value_178
    rw [if_neg c105] at h
    refine hr_tableD hC 224 dX13_value_65 (ks := [30, 31, 34, 35, 36, 38, 39, 40]) (hc_l1 (hc_ne c98 rfl) (hc_l1 (hc_ne c99 rfl) (hc_l1 (hc_ne c100 rfl) (hc_l1 (hc_ne c101 rfl) (hc_l1 (hc_ne c102 rfl) (hc_l1 (hc_ne c103 rfl) (hc_l1 (hc_ne c104 rfl) (hc_l1 (hc_ne c105 rfl) hc_l0)))))))) (by decide) (by decide) (by decide) ?_
    refine hr_aload_n hC dX13_value_224 rfl ?_
    refine hr_gO 6 hC F14_0 rfl dX13_value_225 q795 ?_
    refine hr_iload_n hC dX13_value_228 rfl ?_
    obtain ⟨r15, e16, h⟩ := hx_bind h
    refine hs_callV0 hC 6 [_] _ dX13_value_229 q2099 q1586 q1587 q320 q1588 np_X6 rfl OB_6 pd_X6_value (Nat.le_of_ble_eq_true rfl) hd1 (okX6_value l E A (d - 1)  (by omega)  e16 am) rfl ?_
    refine hr_iconst (v := 3) hC dX13_value_232 rfl ?_
    obtain ⟨r21, e22, h⟩ := hx_bind h
    have J23 : ∀ am33, hc_At hc_V0 E 4 X 251 [] [.int r21.2] r21.1 am33 [] := by
      intro am33
      obtain rfl := Option.some.inj h
      exact hr_iret hC dX13_value_251
    clear h
    have h := e22
    refine hr_icmp_ge (x := _) hC 245 dX13_value_233 (by decide) (fun c20 => ?_) (fun c20 => ?_)
    · rw [if_pos c20] at h
      refine hr_aload_n hC dX13_value_245 rfl ?_
      refine hr_iload_n hC dX13_value_246 rfl ?_
      refine hr_iload_n hC dX13_value_247 rfl ?_
      obtain ⟨r25, e26, h⟩ := hx_bind h
      refine hs_callV hC 14 [_, _] _ dX13_value_248 q2286 q2288 qs146 q327 q2289 np_X13 rfl OB_14 pd_X13_chain (Nat.le_of_ble_eq_true rfl) hd1 (IH _ _ _ _ e26 am) (hc_rb rfl) rfl (fun am27 ha28 => ?_)
      obtain rfl := Option.some.inj h
      exact hr_sub _ rfl (J23 am27)
    · rw [if_neg c20] at h
      refine hr_aload_n hC dX13_value_236 rfl ?_
      refine hr_iload_n hC dX13_value_237 rfl ?_
      refine hr_iload_n hC dX13_value_238 rfl ?_
      obtain ⟨r29, e30, h⟩ := hx_bind h
      refine hs_callV hC 14 [_, _] _ dX13_value_239 q2282 q2284 qs145 q327 q2285 np_X13 rfl OB_14 pd_X13_truth (Nat.le_of_ble_eq_true rfl) hd1 (IH _ _ _ _ e30 am) (hc_rb rfl) rfl (fun am31 ha32 => ?_)
      refine hr_goto hC 251 dX13_value_242 (by decide) ?_
      obtain rfl := Option.some.inj h
      exact hr_sub _ rfl (J23 am31)
  · rw [if_neg c6] at h
    refine hr_aload_n hC dX13_value_11 rfl ?_
    refine hr_gO 15 hC F14_6 rfl dX13_value_12 q801 ?_
    obtain ⟨r106, e107, h⟩ := hx_bind h
    refine hs_callV0 hC 15 [] _ dX13_value_15 q2131 q2132 q2133 q328 q2134 np_X14 rfl OB_15 pd_X14_value (Nat.le_of_ble_eq_true rfl) hd1 (okX14_value l E A (d - 1)  (by omega)  e107 am) rfl ?_
    refine hr_if_ne (x := _) hC 23 dX13_value_18 (by decide) (fun c111 => ?_) (fun c111 => ?_)
    · rw [if_neg c111] at h
      refine hr_aload_n hC dX13_value_23 rfl ?_
      refine hr_gO 13 hC F14_5 rfl dX13_value_24 q800 ?_
      refine hr_aload_n hC dX13_value_27 rfl ?_
      refine hr_iload_n hC dX13_value_28 rfl ?_
      obtain ⟨r112, e113, h⟩ := hx_bind h
      refine hs_callV0 hC 14 [_] _ dX13_value_29 q2135 q2137 qs115 q327 q2138 np_X13 rfl OB_14 pd_X13_dest (Nat.le_of_ble_eq_true rfl) hd1 (okX13_dest l E A (d - 1)  (by omega)  e113 am) rfl ?_
      refine hr_aload_n hC dX13_value_32 rfl ?_
      refine hr_gO 15 hC F14_6 rfl dX13_value_33 q801 ?_
      obtain ⟨r116, e117, h⟩ := hx_bind h
      refine hs_callV0 hC 15 [] _ dX13_value_36 q2131 q2132 q2133 q328 q2134 np_X14 rfl OB_15 pd_X14_value (Nat.le_of_ble_eq_true rfl) hd1 (okX14_value l E A (d - 1)  (by omega)  e117 am) rfl ?_
      obtain ⟨r120, e121, h⟩ := hx_bind h
      refine hs_callV hC 13 [_, _] _ dX13_value_39 q1908 q1909 q1910 q326 q1911 np_X12 rfl OB_13 pd_X12_set (Nat.le_of_ble_eq_true rfl) hd1 (okX12_set l E A (d - 1)  (by omega)  e121 am) (hc_rb rfl) rfl (fun am122 ha123 => ?_)
      refine hr_aload_n hC dX13_value_42 rfl ?_
      refine hr_iload_n hC dX13_value_43 rfl ?_
      obtain ⟨r124, e125, h⟩ := hx_bind h
      refine hs_callV hC 14 [_] _ dX13_value_44 q2142 q2144 qs116 q327 q2145 np_X13 rfl OB_14 pd_X13_keep (Nat.le_of_ble_eq_true rfl) hd1 (okX13_keep l E A (d - 1)  (by omega)  e125 am122) (hc_rb rfl) rfl (fun am126 ha127 => ?_)
      obtain rfl := Option.some.inj h
      exact hr_iret hC dX13_value_47
    · rw [if_pos c111] at h
      refine hr_iconst (v := 0) hC dX13_value_21 rfl ?_
      obtain rfl := Option.some.inj h
      exact hr_iret hC dX13_value_22
def lp_X13_call_142 (n : Nat) (k0 : Nat) (rec : Nat → List Int32 → hc_St → Option (Int32 × hc_St)) : Nat → Int32 → Int32 → Int32 → Int32 → Int32 → Int32 → hc_St → Option (hc_St × Int32)
  | 0, _, _, _, _, _, _, _ => none
  | m + 1, y2, y3, y4, y5, y6, y7, σ => if y7 = (-1) then (some (σ, y6)) else (Option.bind (fm_X13_isArray y7 σ) fun r29 => Option.bind (α := hc_St × Int32) (if r29 = 0 then (Option.bind (rec 0 [y7, ((y2 + y6))] σ) fun r39 => Option.bind (fm_X13_copy r39.1 ((y2 + y6)) r39.2) fun r43 => Option.bind (α := hc_St) (if y4 < 0 then (some (r43.2)) else (Option.bind (fm_X6_op y5 r43.2) fun r53 => if r53 = 1 then (Option.bind (fm_X13_dest ((y2 + y6)) r43.2) fun r59 => Option.bind (fm_X13_use r43.1 5 r43.2) fun r63 => Option.bind (fm_X12_number 7 r59 r63.1 255 r63.2) fun r67 => Option.bind (fm_X13_keep ((y2 + y6)) r67) fun r71 => some (r71.2)) else (some (r43.2)))) fun r49 => some (r49, (y6 + 1))) else (Option.bind (fm_X13_handOn y7 ((y2 + y6)) σ) fun r76 => some (r76, (y6 + 2)))) fun r35 => Option.bind (α := Int32) (if y4 < 0 then (some (y5)) else (Option.bind (fm_X6_next y5 r35.1) fun r87 => some (r87))) fun r83 => Option.bind (fm_X6_next y7 r35.1) fun r91 => lp_X13_call_142 n k0 rec m y2 y3 y4 r83 r35.2 r91 r35.1)
def lp_X13_call_309 (n : Nat) (k0 : Nat) (rec : Nat → List Int32 → hc_St → Option (Int32 × hc_St)) : Nat → Int32 → Int32 → Int32 → Int32 → Int32 → hc_St → Option (hc_St)
  | 0, _, _, _, _, _, _ => none
  | m + 1, y2, y3, y4, y6, y7, σ => if y6 ≤ y7 then (some (σ)) else (Option.bind (α := Int32) (if 12 ≤ (y2 + y7) then (some ((((64 + y2)) + y7))) else (Option.bind (fm_X13_temp ((y2 + y7)) σ) fun r125 => some (r125))) fun r121 => Option.bind (fm_X13_use r121 5 σ) fun r129 => Option.bind (fm_X12_storeAt r129.1 2 ((((-4)) * ((y7 + 1)))) 7 r129.2) fun r133 => lp_X13_call_309 n k0 rec m y2 y3 y4 y6 ((y7 + 1)) r133)
def lp_X13_call_400 (n : Nat) (k0 : Nat) (rec : Nat → List Int32 → hc_St → Option (Int32 × hc_St)) : Nat → Int32 → Int32 → Int32 → Int32 → hc_St → Option (hc_St)
  | 0, _, _, _, _, _ => none
  | m + 1, y2, y3, y6, y7, σ => if y6 ≤ y7 then (some (σ)) else (Option.bind (fm_X12_load 2 ((10 + y7)) 2 ((((-4)) * ((y7 + 1)))) σ) fun r150 => lp_X13_call_400 n k0 rec m y2 y3 y6 ((y7 + 1)) r150)
/-- HomeCompiler$Generator.call(II)I -/
def bd_X13_call (n : Nat) (k0 : Nat) (rec : Nat → List Int32 → hc_St → Option (Int32 × hc_St)) (x1 : Int32) (x2 : Int32) (σ : hc_St) : Option (Int32 × hc_St) := Option.bind (fm_X6_extra x1 σ) fun r1 => Option.bind (α := Int32) (if (r1 - 15) < 0 then (some ((-1))) else (Option.bind (fm_X8_node ((r1 - 15)) σ) fun r11 => Option.bind (fm_X6_first r11 σ) fun r15 => some (r15))) fun r7 => if 0 ≤ (r1 - 15) then (if 0 ≤ (r1 - 15) then (Option.bind (fm_X6_first x1 σ) fun r23 => Option.bind (lp_X13_call_142 n k0 rec n x2 r1 ((r1 - 15)) r7 0 r23 σ) fun r95 => Option.bind (α := hc_St) (if 0 ≤ (r1 - 15) then (some (r95.1)) else (if 10 ≤ r1 then (some (r95.1)) else (Option.bind (fm_X13_takeWork  r95.1) fun r108 => some (r108)))) fun r102 => Option.bind (fm_X13_save n x2 r102) fun r113 => Option.bind (lp_X13_call_309 n k0 rec n x2 r1 ((r1 - 15)) r95.2 0 r113) fun r137 => Option.bind (α := hc_St) (if (r1 - 15) < 0 then (Option.bind (lp_X13_call_400 n k0 rec n x2 r1 r95.2 0 r137) fun r154 => Option.bind (fm_X12_set 17 r1 r154) fun r159 => Option.bind (fm_X12_call  r159) fun r163 => some (r163)) else (hk (inb ((r1 - 15)) (gL r137 14 8)) <| Option.bind (fm_X12_jump 1 ((gC r137 14 8 ((r1 - 15)))) r137) fun r168 => some (r168))) fun r144 => Option.bind (fm_X12_move 5 10 r144) fun r173 => Option.bind (fm_X13_takeBack n x2 r173) fun r177 => Option.bind (fm_X13_dest x2 r177) fun r181 => Option.bind (fm_X12_move r181 5 r177) fun r185 => Option.bind (fm_X13_keep x2 r185) fun r189 => some (r189.1, r189.2)) else (if r1 < 10 then (Option.bind (fm_X6_first x1 σ) fun r195 => Option.bind (lp_X13_call_142 n k0 rec n x2 r1 ((r1 - 15)) r7 0 r195 σ) fun r199 => Option.bind (α := hc_St) (if 0 ≤ (r1 - 15) then (some (r199.1)) else (if 10 ≤ r1 then (some (r199.1)) else (Option.bind (fm_X13_takeWork  r199.1) fun r212 => some (r212)))) fun r206 => Option.bind (fm_X13_save n x2 r206) fun r217 => Option.bind (lp_X13_call_309 n k0 rec n x2 r1 ((r1 - 15)) r199.2 0 r217) fun r221 => Option.bind (α := hc_St) (if (r1 - 15) < 0 then (Option.bind (lp_X13_call_400 n k0 rec n x2 r1 r199.2 0 r221) fun r232 => Option.bind (fm_X12_set 17 r1 r232) fun r237 => Option.bind (fm_X12_call  r237) fun r241 => some (r241)) else (hk (inb ((r1 - 15)) (gL r221 14 8)) <| Option.bind (fm_X12_jump 1 ((gC r221 14 8 ((r1 - 15)))) r221) fun r246 => some (r246))) fun r228 => Option.bind (fm_X12_move 5 10 r228) fun r251 => Option.bind (fm_X13_takeBack n x2 r251) fun r255 => Option.bind (fm_X13_dest x2 r255) fun r259 => Option.bind (fm_X12_move r259 5 r255) fun r263 => Option.bind (fm_X13_keep x2 r263) fun r267 => some (r267.1, r267.2)) else (if r1 = 14 then (Option.bind (fm_X6_first x1 σ) fun r273 => Option.bind (lp_X13_call_142 n k0 rec n x2 r1 ((r1 - 15)) r7 0 r273 σ) fun r277 => Option.bind (α := hc_St) (if 0 ≤ (r1 - 15) then (some (r277.1)) else (if 10 ≤ r1 then (some (r277.1)) else (Option.bind (fm_X13_takeWork  r277.1) fun r290 => some (r290)))) fun r284 => Option.bind (fm_X13_save n x2 r284) fun r295 => Option.bind (lp_X13_call_309 n k0 rec n x2 r1 ((r1 - 15)) r277.2 0 r295) fun r299 => Option.bind (α := hc_St) (if (r1 - 15) < 0 then (Option.bind (lp_X13_call_400 n k0 rec n x2 r1 r277.2 0 r299) fun r310 => Option.bind (fm_X12_set 17 r1 r310) fun r315 => Option.bind (fm_X12_call  r315) fun r319 => some (r319)) else (hk (inb ((r1 - 15)) (gL r299 14 8)) <| Option.bind (fm_X12_jump 1 ((gC r299 14 8 ((r1 - 15)))) r299) fun r324 => some (r324))) fun r306 => Option.bind (fm_X12_move 5 10 r306) fun r329 => Option.bind (fm_X13_takeBack n x2 r329) fun r333 => Option.bind (fm_X13_dest x2 r333) fun r337 => Option.bind (fm_X12_move r337 5 r333) fun r341 => Option.bind (fm_X13_keep x2 r341) fun r345 => some (r345.1, r345.2)) else (Option.bind (fm_X6_first x1 σ) fun r349 => Option.bind (rec 2 [((r1 - 10)), r349, x2] σ) fun r353 => some (r353.1, r353.2))))) else (Option.bind (fm_X2_takes r1 σ) fun r357 => hk (hsc r357 1) <| if (sCh r357 1) = 98 then (Option.bind (fm_X6_first x1 σ) fun r606 => Option.bind (fm_X6_extra r606 σ) fun r610 => Option.bind (fm_X13_dest x2 σ) fun r614 => Option.bind (fm_X13_length r610 r614 σ) fun r618 => Option.bind (fm_X13_keep x2 r618) fun r622 => some (r622.1, r622.2)) else (if 0 ≤ (r1 - 15) then (Option.bind (fm_X6_first x1 σ) fun r366 => Option.bind (lp_X13_call_142 n k0 rec n x2 r1 ((r1 - 15)) r7 0 r366 σ) fun r370 => Option.bind (α := hc_St) (if 0 ≤ (r1 - 15) then (some (r370.1)) else (if 10 ≤ r1 then (some (r370.1)) else (Option.bind (fm_X13_takeWork  r370.1) fun r383 => some (r383)))) fun r377 => Option.bind (fm_X13_save n x2 r377) fun r388 => Option.bind (lp_X13_call_309 n k0 rec n x2 r1 ((r1 - 15)) r370.2 0 r388) fun r392 => Option.bind (α := hc_St) (if (r1 - 15) < 0 then (Option.bind (lp_X13_call_400 n k0 rec n x2 r1 r370.2 0 r392) fun r403 => Option.bind (fm_X12_set 17 r1 r403) fun r408 => Option.bind (fm_X12_call  r408) fun r412 => some (r412)) else (hk (inb ((r1 - 15)) (gL r392 14 8)) <| Option.bind (fm_X12_jump 1 ((gC r392 14 8 ((r1 - 15)))) r392) fun r417 => some (r417))) fun r399 => Option.bind (fm_X12_move 5 10 r399) fun r422 => Option.bind (fm_X13_takeBack n x2 r422) fun r426 => Option.bind (fm_X13_dest x2 r426) fun r430 => Option.bind (fm_X12_move r430 5 r426) fun r434 => Option.bind (fm_X13_keep x2 r434) fun r438 => some (r438.1, r438.2)) else (if r1 < 10 then (Option.bind (fm_X6_first x1 σ) fun r444 => Option.bind (lp_X13_call_142 n k0 rec n x2 r1 ((r1 - 15)) r7 0 r444 σ) fun r448 => Option.bind (α := hc_St) (if 0 ≤ (r1 - 15) then (some (r448.1)) else (if 10 ≤ r1 then (some (r448.1)) else (Option.bind (fm_X13_takeWork  r448.1) fun r461 => some (r461)))) fun r455 => Option.bind (fm_X13_save n x2 r455) fun r466 => Option.bind (lp_X13_call_309 n k0 rec n x2 r1 ((r1 - 15)) r448.2 0 r466) fun r470 => Option.bind (α := hc_St) (if (r1 - 15) < 0 then (Option.bind (lp_X13_call_400 n k0 rec n x2 r1 r448.2 0 r470) fun r481 => Option.bind (fm_X12_set 17 r1 r481) fun r486 => Option.bind (fm_X12_call  r486) fun r490 => some (r490)) else (hk (inb ((r1 - 15)) (gL r470 14 8)) <| Option.bind (fm_X12_jump 1 ((gC r470 14 8 ((r1 - 15)))) r470) fun r495 => some (r495))) fun r477 => Option.bind (fm_X12_move 5 10 r477) fun r500 => Option.bind (fm_X13_takeBack n x2 r500) fun r504 => Option.bind (fm_X13_dest x2 r504) fun r508 => Option.bind (fm_X12_move r508 5 r504) fun r512 => Option.bind (fm_X13_keep x2 r512) fun r516 => some (r516.1, r516.2)) else (if r1 = 14 then (Option.bind (fm_X6_first x1 σ) fun r522 => Option.bind (lp_X13_call_142 n k0 rec n x2 r1 ((r1 - 15)) r7 0 r522 σ) fun r526 => Option.bind (α := hc_St) (if 0 ≤ (r1 - 15) then (some (r526.1)) else (if 10 ≤ r1 then (some (r526.1)) else (Option.bind (fm_X13_takeWork  r526.1) fun r539 => some (r539)))) fun r533 => Option.bind (fm_X13_save n x2 r533) fun r544 => Option.bind (lp_X13_call_309 n k0 rec n x2 r1 ((r1 - 15)) r526.2 0 r544) fun r548 => Option.bind (α := hc_St) (if (r1 - 15) < 0 then (Option.bind (lp_X13_call_400 n k0 rec n x2 r1 r526.2 0 r548) fun r559 => Option.bind (fm_X12_set 17 r1 r559) fun r564 => Option.bind (fm_X12_call  r564) fun r568 => some (r568)) else (hk (inb ((r1 - 15)) (gL r548 14 8)) <| Option.bind (fm_X12_jump 1 ((gC r548 14 8 ((r1 - 15)))) r548) fun r573 => some (r573))) fun r555 => Option.bind (fm_X12_move 5 10 r555) fun r578 => Option.bind (fm_X13_takeBack n x2 r578) fun r582 => Option.bind (fm_X13_dest x2 r582) fun r586 => Option.bind (fm_X12_move r586 5 r582) fun r590 => Option.bind (fm_X13_keep x2 r590) fun r594 => some (r594.1, r594.2)) else (Option.bind (fm_X6_first x1 σ) fun r598 => Option.bind (rec 2 [((r1 - 10)), r598, x2] σ) fun r602 => some (r602.1, r602.2))))))
set_option maxRecDepth 20000 in
set_option maxHeartbeats 4000000 in
theorem ll_X13_call_142 {l : Launch} {E : hc_E} {A : Nat → Prop} {am : Nat → Nat → Nat} {d : Nat} {kk : Nat} {X : hc_X} (n : Nat) (k0 : Nat) (rec : Nat → List Int32 → hc_St → Option (Int32 × hc_St)) (hD : kk + 1 * k0 + 13 ≤ d) (hem : X.2.2.2.2.2.2.2.2.2.1.exceptionTable.isEmpty = true) (IH : ∀ (w : Nat) (a : List Int32) (σ : hc_St) (r : (Int32 × hc_St)), rec w a σ = some r → ∀ am, okg_X13_value l E A (d - 1) am w a σ r) {oc : hc_Oc} {σe : hc_St} (hC : hc_C hc_V0 E cX13_call 9 RX13 (some .int) d oc σe (l, A, am, [13]) X) : ∀ (m : Nat) (σ : hc_St) (y2 : Int32) (y3 : Int32) (y4 : Int32) (y5 : Int32) (y6 : Int32) (y7 : Int32) (rl : hc_St × Int32), lp_X13_call_142 n k0 rec m y2 y3 y4 y5 y6 y7 σ = some rl → (∀ am1, hc_At hc_V0 E 9 X 286 [(0, .ref (E.2.1 14)), (2, .int y2), (3, .int y3), (4, .int y4), (6, .int rl.2)] [] rl.1 am1 []) → ∀ am1, hc_At hc_V0 E 9 X 142 [(0, .ref (E.2.1 14)), (2, .int y2), (3, .int y3), (4, .int y4), (5, .int y5), (6, .int y6), (7, .int y7)] [] σ am1 [] := by
  have hd1 : 1 ≤ d := by omega
  have hd8 : 9 ≤ d := by omega
  have hd12 : 12 ≤ d := by omega
  intro m
  induction m with
  | zero =>
    intro σ y2 y3 y4 y5 y6 y7 rl h
    cases h
  | succ m ih =>
    intro σ y2 y3 y4 y5 y6 y7 rl h JX am1
    rw [lp_X13_call_142] at h
    refine hr_iload hC dX13_call_142 rfl ?_
    refine hr_iconst (v := (-1)) hC dX13_call_144 rfl ?_
    refine hr_icmp_eq (x := _) hC 286 dX13_call_145 (by decide) (fun c28 => ?_) (fun c28 => ?_)
    · rw [if_pos c28] at h
      obtain rfl := Option.some.inj h
      exact hr_sub _ rfl (JX am1)
    · rw [if_neg c28] at h
      refine hr_aload_n hC dX13_call_148 rfl ?_
      refine hr_iload hC dX13_call_149 rfl ?_
      obtain ⟨r29, e30, h⟩ := hx_bind h
      refine hs_callV0 hC 14 [_] _ dX13_call_151 q2211 q2213 qs128 q327 q2214 np_X13 rfl OB_14 pd_X13_isArray (Nat.le_of_ble_eq_true rfl) hd1 (okX13_isArray l E A (d - 1)  (by omega)  e30 am1) rfl ?_
      obtain ⟨r35, e36, h⟩ := hx_bind h
      have J37 : ∀ am80, hc_At hc_V0 E 9 X 251 [(0, .ref (E.2.1 14)), (2, .int y2), (3, .int y3), (4, .int y4), (5, .int y5), (6, .int r35.2), (7, .int y7)] [] r35.1 am80 [] := by
        intro am80
        refine hr_iload hC dX13_call_251 rfl ?_
        obtain ⟨r83, e84, h⟩ := hx_bind h
        have J85 : hc_At hc_V0 E 9 X 270 [(0, .ref (E.2.1 14)), (2, .int y2), (3, .int y3), (4, .int y4), (6, .int r35.2), (7, .int y7)] [.int r83] r35.1 am80 [] := by
          refine hr_istore hC dX13_call_270 (by decide) ?_
          refine hr_aload_n hC dX13_call_272 rfl ?_
          refine hr_gO 6 hC F14_0 rfl dX13_call_273 q795 ?_
          refine hr_iload hC dX13_call_276 rfl ?_
          obtain ⟨r91, e92, h⟩ := hx_bind h
          refine hs_callV0 hC 6 [_] _ dX13_call_278 q2068 q1603 q1604 q320 q1605 np_X6 rfl OB_6 pd_X6_next (Nat.le_of_ble_eq_true rfl) hd1 (okX6_next l E A (d - 1)  (by omega)  e92 am80) rfl ?_
          refine hr_istore hC dX13_call_281 (by decide) ?_
          refine hr_goto hC 142 dX13_call_283 (by decide) ?_
          exact hr_sub _ rfl (ih _ _ _ _ _ _ _ _ h JX am80)
        clear h
        have h := e84
        refine hr_if_lt (x := _) hC 268 dX13_call_253 (by decide) (fun c82 => ?_) (fun c82 => ?_)
        · rw [if_pos c82] at h
          refine hr_iload hC dX13_call_268 rfl ?_
          obtain rfl := Option.some.inj h
          exact hr_sub _ rfl (J85)
        · rw [if_neg c82] at h
          refine hr_aload_n hC dX13_call_256 rfl ?_
          refine hr_gO 6 hC F14_0 rfl dX13_call_257 q795 ?_
          refine hr_iload hC dX13_call_260 rfl ?_
          obtain ⟨r87, e88, h⟩ := hx_bind h
          refine hs_callV0 hC 6 [_] _ dX13_call_262 q2068 q1603 q1604 q320 q1605 np_X6 rfl OB_6 pd_X6_next (Nat.le_of_ble_eq_true rfl) hd1 (okX6_next l E A (d - 1)  (by omega)  e88 am80) rfl ?_
          refine hr_goto hC 270 dX13_call_265 (by decide) ?_
          obtain rfl := Option.some.inj h
          exact hr_sub _ rfl (J85)
      clear h
      have h := e36
      refine hr_if_eq (x := _) hC 173 dX13_call_154 (by decide) (fun c34 => ?_) (fun c34 => ?_)
      · rw [if_pos c34] at h
        refine hr_aload_n hC dX13_call_173 rfl ?_
        refine hr_aload_n hC dX13_call_174 rfl ?_
        refine hr_iload hC dX13_call_175 rfl ?_
        refine hr_iload_n hC dX13_call_177 rfl ?_
        refine hr_iload hC dX13_call_178 rfl ?_
        refine hr_iadd hC dX13_call_180 ?_
        obtain ⟨r39, e40, h⟩ := hx_bind h
        refine hs_callV hC 14 [_, _] _ dX13_call_181 q2101 q2103 qs112 q327 q2104 np_X13 rfl OB_14 pd_X13_value (Nat.le_of_ble_eq_true rfl) hd1 (IH _ _ _ _ e40 am1) (hc_rb rfl) rfl (fun am41 ha42 => ?_)
        refine hr_iload_n hC dX13_call_184 rfl ?_
        refine hr_iload hC dX13_call_185 rfl ?_
        refine hr_iadd hC dX13_call_187 ?_
        obtain ⟨r43, e44, h⟩ := hx_bind h
        refine hs_callV hC 14 [_, _] _ dX13_call_188 q2203 q2205 qs127 q327 q2206 np_X13 rfl OB_14 pd_X13_copy (Nat.le_of_ble_eq_true rfl) hd1 (okX13_copy l E A (d - 1)  (by omega)  e44 am41) (hc_rb rfl) rfl (fun am45 ha46 => ?_)
        refine hr_istore hC dX13_call_191 (by decide) ?_
        refine hr_iload hC dX13_call_193 rfl ?_
        obtain ⟨r49, e50, h⟩ := hx_bind h
        have J51 : ∀ am75, hc_At hc_V0 E 9 X 248 [(0, .ref (E.2.1 14)), (2, .int y2), (3, .int y3), (4, .int y4), (5, .int y5), (6, .int y6), (7, .int y7)] [] r49 am75 [] := by
          intro am75
          refine hr_iinc (v := y6 + 1) hC dX13_call_248 rfl rfl (by decide) ?_
          obtain rfl := Option.some.inj h
          exact hr_sub _ rfl (J37 am75)
        clear h
        have h := e50
        refine hr_if_lt (x := _) hC 248 dX13_call_195 (by decide) (fun c48 => ?_) (fun c48 => ?_)
        · rw [if_pos c48] at h
          obtain rfl := Option.some.inj h
          exact hr_sub _ rfl (J51 am45)
        · rw [if_neg c48] at h
          refine hr_aload_n hC dX13_call_198 rfl ?_
          refine hr_gO 6 hC F14_0 rfl dX13_call_199 q795 ?_
          refine hr_iload hC dX13_call_202 rfl ?_
          obtain ⟨r53, e54, h⟩ := hx_bind h
          refine hs_callV0 hC 6 [_] _ dX13_call_204 q1978 q1639 q1640 q320 q1641 np_X6 rfl OB_6 pd_X6_op (Nat.le_of_ble_eq_true rfl) hd1 (okX6_op l E A (d - 1)  (by omega)  e54 am45) rfl ?_
          refine hr_iconst (v := 1) hC dX13_call_207 rfl ?_
          refine hr_icmp_ne (x := _) hC 248 dX13_call_208 (by decide) (fun c58 => ?_) (fun c58 => ?_)
          · rw [if_neg c58] at h
            obtain rfl := Option.some.inj h
            exact hr_sub _ rfl (J51 am45)
          · rw [if_pos c58] at h
            refine hr_aload_n hC dX13_call_211 rfl ?_
            refine hr_gO 13 hC F14_5 rfl dX13_call_212 q800 ?_
            refine hr_bipush (v := 7) hC dX13_call_215 rfl ?_
            refine hr_aload_n hC dX13_call_217 rfl ?_
            refine hr_iload_n hC dX13_call_218 rfl ?_
            refine hr_iload hC dX13_call_219 rfl ?_
            refine hr_iadd hC dX13_call_221 ?_
            obtain ⟨r59, e60, h⟩ := hx_bind h
            refine hs_callV0 hC 14 [_] _ dX13_call_222 q2135 q2137 qs115 q327 q2138 np_X13 rfl OB_14 pd_X13_dest (Nat.le_of_ble_eq_true rfl) hd1 (okX13_dest l E A (d - 1)  (by omega)  e60 am45) rfl ?_
            refine hr_aload_n hC dX13_call_225 rfl ?_
            refine hr_iload hC dX13_call_226 rfl ?_
            refine hr_iconst (v := 5) hC dX13_call_228 rfl ?_
            obtain ⟨r63, e64, h⟩ := hx_bind h
            refine hs_callV hC 14 [_, _] _ dX13_call_229 q2167 q2169 qs121 q327 q2170 np_X13 rfl OB_14 pd_X13_use (Nat.le_of_ble_eq_true rfl) hd1 (okX13_use l E A (d - 1)  (by omega)  e64 am45) (hc_rb rfl) rfl (fun am65 ha66 => ?_)
            refine hr_sipush (v := 255) hC dX13_call_232 rfl ?_
            obtain ⟨r67, e68, h⟩ := hx_bind h
            refine hs_callV hC 13 [_, _, _, _] _ dX13_call_235 q1992 q1913 q1914 q326 q1915 np_X12 rfl OB_13 pd_X12_number (Nat.le_of_ble_eq_true rfl) hd1 (okX12_number l E A (d - 1)  (by omega)  e68 am65) (hc_rb rfl) rfl (fun am69 ha70 => ?_)
            refine hr_aload_n hC dX13_call_238 rfl ?_
            refine hr_iload_n hC dX13_call_239 rfl ?_
            refine hr_iload hC dX13_call_240 rfl ?_
            refine hr_iadd hC dX13_call_242 ?_
            obtain ⟨r71, e72, h⟩ := hx_bind h
            refine hs_callV hC 14 [_] _ dX13_call_243 q2142 q2144 qs116 q327 q2145 np_X13 rfl OB_14 pd_X13_keep (Nat.le_of_ble_eq_true rfl) hd1 (okX13_keep l E A (d - 1)  (by omega)  e72 am69) (hc_rb rfl) rfl (fun am73 ha74 => ?_)
            refine hr_istore hC dX13_call_246 (by decide) ?_
            obtain rfl := Option.some.inj h
            exact hr_sub _ rfl (J51 am73)
      · rw [if_neg c34] at h
        refine hr_aload_n hC dX13_call_157 rfl ?_
        refine hr_iload hC dX13_call_158 rfl ?_
        refine hr_iload_n hC dX13_call_160 rfl ?_
        refine hr_iload hC dX13_call_161 rfl ?_
        refine hr_iadd hC dX13_call_163 ?_
        obtain ⟨r76, e77, h⟩ := hx_bind h
        refine hs_callV hC 14 [_, _] _ dX13_call_164 q2215 q2217 qs129 q327 q2218 np_X13 rfl OB_14 pd_X13_handOn (Nat.le_of_ble_eq_true rfl) hd1 (okX13_handOn l E A (d - 1)  (by omega)  e77 am1) (hc_rb rfl) rfl (fun am78 ha79 => ?_)
        refine hr_iinc (v := y6 + 2) hC dX13_call_167 rfl rfl (by decide) ?_
        refine hr_goto hC 251 dX13_call_170 (by decide) ?_
        obtain rfl := Option.some.inj h
        exact hr_sub _ rfl (J37 am78)
set_option maxRecDepth 20000 in
set_option maxHeartbeats 4000000 in
theorem ll_X13_call_309 {l : Launch} {E : hc_E} {A : Nat → Prop} {am : Nat → Nat → Nat} {d : Nat} {kk : Nat} {X : hc_X} (n : Nat) (k0 : Nat) (rec : Nat → List Int32 → hc_St → Option (Int32 × hc_St)) (hD : kk + 1 * k0 + 13 ≤ d) (hem : X.2.2.2.2.2.2.2.2.2.1.exceptionTable.isEmpty = true) (IH : ∀ (w : Nat) (a : List Int32) (σ : hc_St) (r : (Int32 × hc_St)), rec w a σ = some r → ∀ am, okg_X13_value l E A (d - 1) am w a σ r) {oc : hc_Oc} {σe : hc_St} (hC : hc_C hc_V0 E cX13_call 9 RX13 (some .int) d oc σe (l, A, am, [13]) X) : ∀ (m : Nat) (σ : hc_St) (y2 : Int32) (y3 : Int32) (y4 : Int32) (y6 : Int32) (y7 : Int32) (rl : hc_St), lp_X13_call_309 n k0 rec m y2 y3 y4 y6 y7 σ = some rl → (∀ am1, hc_At hc_V0 E 9 X 374 [(0, .ref (E.2.1 14)), (2, .int y2), (3, .int y3), (4, .int y4), (6, .int y6)] [] rl am1 []) → ∀ am1, hc_At hc_V0 E 9 X 309 [(0, .ref (E.2.1 14)), (2, .int y2), (3, .int y3), (4, .int y4), (6, .int y6), (7, .int y7)] [] σ am1 [] := by
  have hd1 : 1 ≤ d := by omega
  have hd8 : 9 ≤ d := by omega
  have hd12 : 12 ≤ d := by omega
  intro m
  induction m with
  | zero =>
    intro σ y2 y3 y4 y6 y7 rl h
    cases h
  | succ m ih =>
    intro σ y2 y3 y4 y6 y7 rl h JX am1
    rw [lp_X13_call_309] at h
    refine hr_iload hC dX13_call_309 rfl ?_
    refine hr_iload hC dX13_call_311 rfl ?_
    refine hr_icmp_ge (x := _) hC 374 dX13_call_313 (by decide) (fun c118 => ?_) (fun c118 => ?_)
    · rw [if_pos c118] at h
      obtain rfl := Option.some.inj h
      exact hr_sub _ rfl (JX am1)
    · rw [if_neg c118] at h
      refine hr_iload_n hC dX13_call_316 rfl ?_
      refine hr_iload hC dX13_call_317 rfl ?_
      refine hr_iadd hC dX13_call_319 ?_
      refine hr_bipush (v := 12) hC dX13_call_320 rfl ?_
      obtain ⟨r121, e122, h⟩ := hx_bind h
      have J123 : hc_At hc_V0 E 9 X 342 [(0, .ref (E.2.1 14)), (2, .int y2), (3, .int y3), (4, .int y4), (6, .int y6), (7, .int y7)] [.int r121] σ am1 [] := by
        refine hr_istore hC dX13_call_342 (by decide) ?_
        refine hr_aload_n hC dX13_call_344 rfl ?_
        refine hr_gO 13 hC F14_5 rfl dX13_call_345 q800 ?_
        refine hr_aload_n hC dX13_call_348 rfl ?_
        refine hr_iload hC dX13_call_349 rfl ?_
        refine hr_iconst (v := 5) hC dX13_call_351 rfl ?_
        obtain ⟨r129, e130, h⟩ := hx_bind h
        refine hs_callV hC 14 [_, _] _ dX13_call_352 q2167 q2169 qs121 q327 q2170 np_X13 rfl OB_14 pd_X13_use (Nat.le_of_ble_eq_true rfl) hd1 (okX13_use l E A (d - 1)  (by omega)  e130 am1) (hc_rb rfl) rfl (fun am131 ha132 => ?_)
        refine hr_iconst (v := 2) hC dX13_call_355 rfl ?_
        refine hr_bipush (v := (-4)) hC dX13_call_356 rfl ?_
        refine hr_iload hC dX13_call_358 rfl ?_
        refine hr_iconst (v := 1) hC dX13_call_360 rfl ?_
        refine hr_iadd hC dX13_call_361 ?_
        refine hr_imul hC dX13_call_362 ?_
        refine hr_bipush (v := 7) hC dX13_call_363 rfl ?_
        obtain ⟨r133, e134, h⟩ := hx_bind h
        refine hs_callV hC 13 [_, _, _, _] _ dX13_call_365 q2020 q2021 q2022 q326 q2023 np_X12 rfl OB_13 pd_X12_storeAt (Nat.le_of_ble_eq_true rfl) hd1 (okX12_storeAt l E A (d - 1)  (by omega)  e134 am131) (hc_rb rfl) rfl (fun am135 ha136 => ?_)
        refine hr_iinc (v := y7 + 1) hC dX13_call_368 rfl rfl (by decide) ?_
        refine hr_goto hC 309 dX13_call_371 (by decide) ?_
        exact hr_sub _ rfl (ih _ _ _ _ _ _ _ h JX am135)
      clear h
      have h := e122
      refine hr_icmp_ge (x := _) hC 335 dX13_call_322 (by decide) (fun c120 => ?_) (fun c120 => ?_)
      · rw [if_pos c120] at h
        refine hr_bipush (v := 64) hC dX13_call_335 rfl ?_
        refine hr_iload_n hC dX13_call_337 rfl ?_
        refine hr_iadd hC dX13_call_338 ?_
        refine hr_iload hC dX13_call_339 rfl ?_
        refine hr_iadd hC dX13_call_341 ?_
        obtain rfl := Option.some.inj h
        exact hr_sub _ rfl (J123)
      · rw [if_neg c120] at h
        refine hr_iload_n hC dX13_call_325 rfl ?_
        refine hr_iload hC dX13_call_326 rfl ?_
        refine hr_iadd hC dX13_call_328 ?_
        obtain ⟨r125, e126, h⟩ := hx_bind h
        refine hs_callS0 hC [_] _ dX13_call_329 q2139 q2140 q327 q2141 np_X13 rfl pd_X13_temp (Nat.le_of_ble_eq_true rfl) hd1 (okX13_temp l E A (d - 1)  (by omega)  e126 am1) rfl ?_
        refine hr_goto hC 342 dX13_call_332 (by decide) ?_
        obtain rfl := Option.some.inj h
        exact hr_sub _ rfl (J123)
set_option maxRecDepth 20000 in
set_option maxHeartbeats 4000000 in
theorem ll_X13_call_400 {l : Launch} {E : hc_E} {A : Nat → Prop} {am : Nat → Nat → Nat} {d : Nat} {kk : Nat} {X : hc_X} (n : Nat) (k0 : Nat) (rec : Nat → List Int32 → hc_St → Option (Int32 × hc_St)) (hD : kk + 1 * k0 + 13 ≤ d) (hem : X.2.2.2.2.2.2.2.2.2.1.exceptionTable.isEmpty = true) (IH : ∀ (w : Nat) (a : List Int32) (σ : hc_St) (r : (Int32 × hc_St)), rec w a σ = some r → ∀ am, okg_X13_value l E A (d - 1) am w a σ r) {oc : hc_Oc} {σe : hc_St} (hC : hc_C hc_V0 E cX13_call 9 RX13 (some .int) d oc σe (l, A, am, [13]) X) : ∀ (m : Nat) (σ : hc_St) (y2 : Int32) (y3 : Int32) (y6 : Int32) (y7 : Int32) (rl : hc_St), lp_X13_call_400 n k0 rec m y2 y3 y6 y7 σ = some rl → (∀ am1, hc_At hc_V0 E 9 X 434 [(0, .ref (E.2.1 14)), (2, .int y2), (3, .int y3)] [] rl am1 []) → ∀ am1, hc_At hc_V0 E 9 X 400 [(0, .ref (E.2.1 14)), (2, .int y2), (3, .int y3), (6, .int y6), (7, .int y7)] [] σ am1 [] := by
  have hd1 : 1 ≤ d := by omega
  have hd8 : 9 ≤ d := by omega
  have hd12 : 12 ≤ d := by omega
  intro m
  induction m with
  | zero =>
    intro σ y2 y3 y6 y7 rl h
    cases h
  | succ m ih =>
    intro σ y2 y3 y6 y7 rl h JX am1
    rw [lp_X13_call_400] at h
    refine hr_iload hC dX13_call_400 rfl ?_
    refine hr_iload hC dX13_call_402 rfl ?_
    refine hr_icmp_ge (x := _) hC 434 dX13_call_404 (by decide) (fun c149 => ?_) (fun c149 => ?_)
    · rw [if_pos c149] at h
      obtain rfl := Option.some.inj h
      exact hr_sub _ rfl (JX am1)
    · rw [if_neg c149] at h
      refine hr_aload_n hC dX13_call_407 rfl ?_
      refine hr_gO 13 hC F14_5 rfl dX13_call_408 q800 ?_
      refine hr_iconst (v := 2) hC dX13_call_411 rfl ?_
      refine hr_bipush (v := 10) hC dX13_call_412 rfl ?_
      refine hr_iload hC dX13_call_414 rfl ?_
      refine hr_iadd hC dX13_call_416 ?_
      refine hr_iconst (v := 2) hC dX13_call_417 rfl ?_
      refine hr_bipush (v := (-4)) hC dX13_call_418 rfl ?_
      refine hr_iload hC dX13_call_420 rfl ?_
      refine hr_iconst (v := 1) hC dX13_call_422 rfl ?_
      refine hr_iadd hC dX13_call_423 ?_
      refine hr_imul hC dX13_call_424 ?_
      obtain ⟨r150, e151, h⟩ := hx_bind h
      refine hs_callV hC 13 [_, _, _, _] _ dX13_call_425 q2162 q2061 q2062 q326 q2063 np_X12 rfl OB_13 pd_X12_load (Nat.le_of_ble_eq_true rfl) hd1 (okX12_load l E A (d - 1)  (by omega)  e151 am1) (hc_rb rfl) rfl (fun am152 ha153 => ?_)
      refine hr_iinc (v := y7 + 1) hC dX13_call_428 rfl rfl (by decide) ?_
      refine hr_goto hC 400 dX13_call_431 (by decide) ?_
      exact hr_sub _ rfl (ih _ _ _ _ _ _ h JX am152)
set_option maxRecDepth 20000 in
set_option maxHeartbeats 4000000 in
theorem okbX13_call (l : Launch) (E : hc_E) (A : Nat → Prop) (d : Nat) {kk : Nat} (n : Nat) (k0 : Nat) (rec : Nat → List Int32 → hc_St → Option (Int32 × hc_St)) (hD : kk + 1 * k0 + 13 ≤ d) (IH : ∀ (w : Nat) (a : List Int32) (σ : hc_St) (r : (Int32 × hc_St)), rec w a σ = some r → ∀ am, okg_X13_value l E A (d - 1) am w a σ r) {x1 : Int32} {x2 : Int32} {σ : hc_St} {r : (Int32 × hc_St)} (h : bd_X13_call n k0 rec x1 x2 σ = some r) (am : Nat → Nat → Nat) : hc_M l hc_V0 yX13_call (ws_ yX13_call cX13_call 9 (some .int)) d E A [.ref (E.2.1 14), .int x1, .int x2] am [13] σ (.inl (some (.int r.1))) r.2 := by
  have hd1 : 1 ≤ d := by omega
  have hd8 : 9 ≤ d := by omega
  have hd12 : 12 ≤ d := by omega
  refine hc_enter2 (own := RX13) [(0, .ref (E.2.1 14)), (1, .int x1), (2, .int x2)] pl_X13 rfl hc_V0_st hc_G0_nd rfl (Nat.le_of_ble_eq_true rfl) (fun X hC hem => ?_)
  unfold bd_X13_call at h
  refine hr_aload_n hC dX13_call_0 rfl ?_
  refine hr_gO 6 hC F14_0 rfl dX13_call_1 q795 ?_
  refine hr_iload_n hC dX13_call_4 rfl ?_
  obtain ⟨r1, e2, h⟩ := hx_bind h
  refine hs_callV0 hC 6 [_] _ dX13_call_5 q2043 q1687 q1688 q320 q1689 np_X6 rfl OB_6 pd_X6_extra (Nat.le_of_ble_eq_true rfl) hd1 (okX6_extra l E A (d - 1)  (by omega)  e2 am) rfl ?_
  refine hr_istore_n hC dX13_call_8 (by decide) ?_
  refine hr_iload_n hC dX13_call_9 rfl ?_
  refine hr_bipush (v := 15) hC dX13_call_10 rfl ?_
  refine hr_isub hC dX13_call_12 ?_
  refine hr_istore hC dX13_call_13 (by decide) ?_
  refine hr_iload hC dX13_call_15 rfl ?_
  obtain ⟨r7, e8, h⟩ := hx_bind h
  have J9 : hc_At hc_V0 E 9 X 40 [(0, .ref (E.2.1 14)), (1, .int x1), (2, .int x2), (3, .int r1), (4, .int (r1 - 15))] [.int r7] σ am [] := by
    refine hr_istore hC dX13_call_40 (by decide) ?_
    refine hr_iload hC dX13_call_42 rfl ?_
    refine hr_if_ge (x := _) hC 94 dX13_call_44 (by decide) (fun c20 => ?_) (fun c20 => ?_)
    · rw [if_pos c20] at h
      refine hr_iload hC dX13_call_94 rfl ?_
      refine hr_if_ge (x := _) hC 129 dX13_call_96 (by decide) (fun c22 => ?_) (fun c22 => ?_)
      · rw [if_pos c22] at h
        refine hr_iconst (v := 0) hC dX13_call_129 rfl ?_
        refine hr_istore hC dX13_call_130 (by decide) ?_
        refine hr_aload_n hC dX13_call_132 rfl ?_
        refine hr_gO 6 hC F14_0 rfl dX13_call_133 q795 ?_
        refine hr_iload_n hC dX13_call_136 rfl ?_
        obtain ⟨r23, e24, h⟩ := hx_bind h
        refine hs_callV0 hC 6 [_] _ dX13_call_137 q2048 q1576 q1577 q320 q1578 np_X6 rfl OB_6 pd_X6_first (Nat.le_of_ble_eq_true rfl) hd1 (okX6_first l E A (d - 1)  (by omega)  e24 am) rfl ?_
        refine hr_istore hC dX13_call_140 (by decide) ?_
        obtain ⟨r95, e96, h⟩ := hx_bind h
        refine hr_sub _ rfl (ll_X13_call_142 n k0 rec hD hem IH hC n _ _ _ _ _ _ _ _ e96 (fun am99 => ?_) am)
        refine hr_iload hC dX13_call_286 rfl ?_
        obtain ⟨r102, e103, h⟩ := hx_bind h
        have J104 : ∀ am112, hc_At hc_V0 E 9 X 301 [(0, .ref (E.2.1 14)), (2, .int x2), (3, .int r1), (4, .int (r1 - 15)), (6, .int r95.2)] [] r102 am112 [] := by
          intro am112
          refine hr_aload_n hC dX13_call_301 rfl ?_
          refine hr_iload_n hC dX13_call_302 rfl ?_
          obtain ⟨r113, e114, h⟩ := hx_bind h
          refine hs_callV hC 14 [_] _ dX13_call_303 q2219 q2221 qs130 q327 q2222 np_X13 rfl OB_14 pd_X13_save (Nat.le_of_ble_eq_true rfl) hd1 (okX13_save l E A (d - 1) n (by omega)  e114 am112) (hc_rb rfl) rfl (fun am115 ha116 => ?_)
          refine hr_iconst (v := 0) hC dX13_call_306 rfl ?_
          refine hr_istore hC dX13_call_307 (by decide) ?_
          obtain ⟨r137, e138, h⟩ := hx_bind h
          refine hr_sub _ rfl (ll_X13_call_309 n k0 rec hD hem IH hC n _ _ _ _ _ _ _ e138 (fun am141 => ?_) am115)
          refine hr_iload hC dX13_call_374 rfl ?_
          obtain ⟨r144, e145, h⟩ := hx_bind h
          have J146 : ∀ am172, hc_At hc_V0 E 9 X 451 [(0, .ref (E.2.1 14)), (2, .int x2)] [] r144 am172 [] := by
            intro am172
            refine hr_aload_n hC dX13_call_451 rfl ?_
            refine hr_gO 13 hC F14_5 rfl dX13_call_452 q800 ?_
            refine hr_iconst (v := 5) hC dX13_call_455 rfl ?_
            refine hr_bipush (v := 10) hC dX13_call_456 rfl ?_
            obtain ⟨r173, e174, h⟩ := hx_bind h
            refine hs_callV hC 13 [_, _] _ dX13_call_458 q2007 q2008 q2009 q326 q2010 np_X12 rfl OB_13 pd_X12_move (Nat.le_of_ble_eq_true rfl) hd1 (okX12_move l E A (d - 1)  (by omega)  e174 am172) (hc_rb rfl) rfl (fun am175 ha176 => ?_)
            refine hr_aload_n hC dX13_call_461 rfl ?_
            refine hr_iload_n hC dX13_call_462 rfl ?_
            obtain ⟨r177, e178, h⟩ := hx_bind h
            refine hs_callV hC 14 [_] _ dX13_call_463 q2223 q2225 qs131 q327 q2226 np_X13 rfl OB_14 pd_X13_takeBack (Nat.le_of_ble_eq_true rfl) hd1 (okX13_takeBack l E A (d - 1) n (by omega)  e178 am175) (hc_rb rfl) rfl (fun am179 ha180 => ?_)
            refine hr_aload_n hC dX13_call_466 rfl ?_
            refine hr_gO 13 hC F14_5 rfl dX13_call_467 q800 ?_
            refine hr_aload_n hC dX13_call_470 rfl ?_
            refine hr_iload_n hC dX13_call_471 rfl ?_
            obtain ⟨r181, e182, h⟩ := hx_bind h
            refine hs_callV0 hC 14 [_] _ dX13_call_472 q2135 q2137 qs115 q327 q2138 np_X13 rfl OB_14 pd_X13_dest (Nat.le_of_ble_eq_true rfl) hd1 (okX13_dest l E A (d - 1)  (by omega)  e182 am179) rfl ?_
            refine hr_iconst (v := 5) hC dX13_call_475 rfl ?_
            obtain ⟨r185, e186, h⟩ := hx_bind h
            refine hs_callV hC 13 [_, _] _ dX13_call_476 q2007 q2008 q2009 q326 q2010 np_X12 rfl OB_13 pd_X12_move (Nat.le_of_ble_eq_true rfl) hd1 (okX12_move l E A (d - 1)  (by omega)  e186 am179) (hc_rb rfl) rfl (fun am187 ha188 => ?_)
            refine hr_aload_n hC dX13_call_479 rfl ?_
            refine hr_iload_n hC dX13_call_480 rfl ?_
            obtain ⟨r189, e190, h⟩ := hx_bind h
            refine hs_callV hC 14 [_] _ dX13_call_481 q2142 q2144 qs116 q327 q2145 np_X13 rfl OB_14 pd_X13_keep (Nat.le_of_ble_eq_true rfl) hd1 (okX13_keep l E A (d - 1)  (by omega)  e190 am187) (hc_rb rfl) rfl (fun am191 ha192 => ?_)
            obtain rfl := Option.some.inj h
            exact hr_iret hC dX13_call_484
          clear h
          have h := e145
          refine hr_if_lt (x := _) hC 397 dX13_call_376 (by decide) (fun c143 => ?_) (fun c143 => ?_)
          · rw [if_pos c143] at h
            refine hr_iconst (v := 0) hC dX13_call_397 rfl ?_
            refine hr_istore hC dX13_call_398 (by decide) ?_
            obtain ⟨r154, e155, h⟩ := hx_bind h
            refine hr_sub _ rfl (ll_X13_call_400 n k0 rec hD hem IH hC n _ _ _ _ _ _ e155 (fun am158 => ?_) am141)
            refine hr_aload_n hC dX13_call_434 rfl ?_
            refine hr_gO 13 hC F14_5 rfl dX13_call_435 q800 ?_
            refine hr_bipush (v := 17) hC dX13_call_438 rfl ?_
            refine hr_iload_n hC dX13_call_440 rfl ?_
            obtain ⟨r159, e160, h⟩ := hx_bind h
            refine hs_callV hC 13 [_, _] _ dX13_call_441 q1908 q1909 q1910 q326 q1911 np_X12 rfl OB_13 pd_X12_set (Nat.le_of_ble_eq_true rfl) hd1 (okX12_set l E A (d - 1)  (by omega)  e160 am158) (hc_rb rfl) rfl (fun am161 ha162 => ?_)
            refine hr_aload_n hC dX13_call_444 rfl ?_
            refine hr_gO 13 hC F14_5 rfl dX13_call_445 q800 ?_
            obtain ⟨r163, e164, h⟩ := hx_bind h
            refine hs_callV hC 13 [] _ dX13_call_448 q1923 q1924 q1925 q326 q1926 np_X12 rfl OB_13 pd_X12_call (Nat.le_of_ble_eq_true rfl) hd1 (okX12_call l E A (d - 1)  (by omega)  e164 am161) (hc_rb rfl) rfl (fun am165 ha166 => ?_)
            obtain rfl := Option.some.inj h
            exact hr_sub _ rfl (J146 am165)
          · rw [if_neg c143] at h
            refine hr_aload_n hC dX13_call_379 rfl ?_
            refine hr_gO 13 hC F14_5 rfl dX13_call_380 q800 ?_
            refine hr_iconst (v := 1) hC dX13_call_383 rfl ?_
            refine hr_aload_n hC dX13_call_384 rfl ?_
            refine hr_gA hC F14_8 rfl dX13_call_385 q803 ?_
            refine hr_iload hC dX13_call_388 rfl ?_
            obtain ⟨c167, h⟩ := hk_ok h
            refine hs_iald hC A14_8 c167 dX13_call_390 ?_
            obtain ⟨r168, e169, h⟩ := hx_bind h
            refine hs_callV hC 13 [_, _] _ dX13_call_391 q1904 q1905 q1906 q326 q1907 np_X12 rfl OB_13 pd_X12_jump (Nat.le_of_ble_eq_true rfl) hd1 (okX12_jump l E A (d - 1)  (by omega)  e169 am141) (hc_rb rfl) rfl (fun am170 ha171 => ?_)
            refine hr_goto hC 451 dX13_call_394 (by decide) ?_
            obtain rfl := Option.some.inj h
            exact hr_sub _ rfl (J146 am170)
        clear h
        have h := e103
        refine hr_if_ge (x := _) hC 301 dX13_call_288 (by decide) (fun c101 => ?_) (fun c101 => ?_)
        · rw [if_pos c101] at h
          obtain rfl := Option.some.inj h
          exact hr_sub _ rfl (J104 am99)
        · rw [if_neg c101] at h
          refine hr_iload_n hC dX13_call_291 rfl ?_
          refine hr_bipush (v := 10) hC dX13_call_292 rfl ?_
          refine hr_icmp_ge (x := _) hC 301 dX13_call_294 (by decide) (fun c107 => ?_) (fun c107 => ?_)
          · rw [if_pos c107] at h
            obtain rfl := Option.some.inj h
            exact hr_sub _ rfl (J104 am99)
          · rw [if_neg c107] at h
            refine hr_aload_n hC dX13_call_297 rfl ?_
            obtain ⟨r108, e109, h⟩ := hx_bind h
            refine hs_callV hC 14 [] _ dX13_call_298 q1979 q1981 qs103 q327 q1982 np_X13 rfl OB_14 pd_X13_takeWork (Nat.le_of_ble_eq_true rfl) hd1 (okX13_takeWork l E A (d - 1)  (by omega)  e109 am99) (hc_rb rfl) rfl (fun am110 ha111 => ?_)
            obtain rfl := Option.some.inj h
            exact hr_sub _ rfl (J104 am110)
      · rw [if_neg c22] at h
        refine hr_iload_n hC dX13_call_99 rfl ?_
        refine hr_bipush (v := 10) hC dX13_call_100 rfl ?_
        refine hr_icmp_lt (x := _) hC 129 dX13_call_102 (by decide) (fun c194 => ?_) (fun c194 => ?_)
        · rw [if_pos c194] at h
          refine hr_iconst (v := 0) hC dX13_call_129 rfl ?_
          refine hr_istore hC dX13_call_130 (by decide) ?_
          refine hr_aload_n hC dX13_call_132 rfl ?_
          refine hr_gO 6 hC F14_0 rfl dX13_call_133 q795 ?_
          refine hr_iload_n hC dX13_call_136 rfl ?_
          obtain ⟨r195, e196, h⟩ := hx_bind h
          refine hs_callV0 hC 6 [_] _ dX13_call_137 q2048 q1576 q1577 q320 q1578 np_X6 rfl OB_6 pd_X6_first (Nat.le_of_ble_eq_true rfl) hd1 (okX6_first l E A (d - 1)  (by omega)  e196 am) rfl ?_
          refine hr_istore hC dX13_call_140 (by decide) ?_
          obtain ⟨r199, e200, h⟩ := hx_bind h
          refine hr_sub _ rfl (ll_X13_call_142 n k0 rec hD hem IH hC n _ _ _ _ _ _ _ _ e200 (fun am203 => ?_) am)
          refine hr_iload hC dX13_call_286 rfl ?_
          obtain ⟨r206, e207, h⟩ := hx_bind h
          have J208 : ∀ am216, hc_At hc_V0 E 9 X 301 [(0, .ref (E.2.1 14)), (2, .int x2), (3, .int r1), (4, .int (r1 - 15)), (6, .int r199.2)] [] r206 am216 [] := by
            intro am216
            refine hr_aload_n hC dX13_call_301 rfl ?_
            refine hr_iload_n hC dX13_call_302 rfl ?_
            obtain ⟨r217, e218, h⟩ := hx_bind h
            refine hs_callV hC 14 [_] _ dX13_call_303 q2219 q2221 qs130 q327 q2222 np_X13 rfl OB_14 pd_X13_save (Nat.le_of_ble_eq_true rfl) hd1 (okX13_save l E A (d - 1) n (by omega)  e218 am216) (hc_rb rfl) rfl (fun am219 ha220 => ?_)
            refine hr_iconst (v := 0) hC dX13_call_306 rfl ?_
            refine hr_istore hC dX13_call_307 (by decide) ?_
            obtain ⟨r221, e222, h⟩ := hx_bind h
            refine hr_sub _ rfl (ll_X13_call_309 n k0 rec hD hem IH hC n _ _ _ _ _ _ _ e222 (fun am225 => ?_) am219)
            refine hr_iload hC dX13_call_374 rfl ?_
            obtain ⟨r228, e229, h⟩ := hx_bind h
            have J230 : ∀ am250, hc_At hc_V0 E 9 X 451 [(0, .ref (E.2.1 14)), (2, .int x2)] [] r228 am250 [] := by
              intro am250
              refine hr_aload_n hC dX13_call_451 rfl ?_
              refine hr_gO 13 hC F14_5 rfl dX13_call_452 q800 ?_
              refine hr_iconst (v := 5) hC dX13_call_455 rfl ?_
              refine hr_bipush (v := 10) hC dX13_call_456 rfl ?_
              obtain ⟨r251, e252, h⟩ := hx_bind h
              refine hs_callV hC 13 [_, _] _ dX13_call_458 q2007 q2008 q2009 q326 q2010 np_X12 rfl OB_13 pd_X12_move (Nat.le_of_ble_eq_true rfl) hd1 (okX12_move l E A (d - 1)  (by omega)  e252 am250) (hc_rb rfl) rfl (fun am253 ha254 => ?_)
              refine hr_aload_n hC dX13_call_461 rfl ?_
              refine hr_iload_n hC dX13_call_462 rfl ?_
              obtain ⟨r255, e256, h⟩ := hx_bind h
              refine hs_callV hC 14 [_] _ dX13_call_463 q2223 q2225 qs131 q327 q2226 np_X13 rfl OB_14 pd_X13_takeBack (Nat.le_of_ble_eq_true rfl) hd1 (okX13_takeBack l E A (d - 1) n (by omega)  e256 am253) (hc_rb rfl) rfl (fun am257 ha258 => ?_)
              refine hr_aload_n hC dX13_call_466 rfl ?_
              refine hr_gO 13 hC F14_5 rfl dX13_call_467 q800 ?_
              refine hr_aload_n hC dX13_call_470 rfl ?_
              refine hr_iload_n hC dX13_call_471 rfl ?_
              obtain ⟨r259, e260, h⟩ := hx_bind h
              refine hs_callV0 hC 14 [_] _ dX13_call_472 q2135 q2137 qs115 q327 q2138 np_X13 rfl OB_14 pd_X13_dest (Nat.le_of_ble_eq_true rfl) hd1 (okX13_dest l E A (d - 1)  (by omega)  e260 am257) rfl ?_
              refine hr_iconst (v := 5) hC dX13_call_475 rfl ?_
              obtain ⟨r263, e264, h⟩ := hx_bind h
              refine hs_callV hC 13 [_, _] _ dX13_call_476 q2007 q2008 q2009 q326 q2010 np_X12 rfl OB_13 pd_X12_move (Nat.le_of_ble_eq_true rfl) hd1 (okX12_move l E A (d - 1)  (by omega)  e264 am257) (hc_rb rfl) rfl (fun am265 ha266 => ?_)
              refine hr_aload_n hC dX13_call_479 rfl ?_
              refine hr_iload_n hC dX13_call_480 rfl ?_
              obtain ⟨r267, e268, h⟩ := hx_bind h
              refine hs_callV hC 14 [_] _ dX13_call_481 q2142 q2144 qs116 q327 q2145 np_X13 rfl OB_14 pd_X13_keep (Nat.le_of_ble_eq_true rfl) hd1 (okX13_keep l E A (d - 1)  (by omega)  e268 am265) (hc_rb rfl) rfl (fun am269 ha270 => ?_)
              obtain rfl := Option.some.inj h
              exact hr_iret hC dX13_call_484
            clear h
            have h := e229
            refine hr_if_lt (x := _) hC 397 dX13_call_376 (by decide) (fun c227 => ?_) (fun c227 => ?_)
            · rw [if_pos c227] at h
              refine hr_iconst (v := 0) hC dX13_call_397 rfl ?_
              refine hr_istore hC dX13_call_398 (by decide) ?_
              obtain ⟨r232, e233, h⟩ := hx_bind h
              refine hr_sub _ rfl (ll_X13_call_400 n k0 rec hD hem IH hC n _ _ _ _ _ _ e233 (fun am236 => ?_) am225)
              refine hr_aload_n hC dX13_call_434 rfl ?_
              refine hr_gO 13 hC F14_5 rfl dX13_call_435 q800 ?_
              refine hr_bipush (v := 17) hC dX13_call_438 rfl ?_
              refine hr_iload_n hC dX13_call_440 rfl ?_
              obtain ⟨r237, e238, h⟩ := hx_bind h
              refine hs_callV hC 13 [_, _] _ dX13_call_441 q1908 q1909 q1910 q326 q1911 np_X12 rfl OB_13 pd_X12_set (Nat.le_of_ble_eq_true rfl) hd1 (okX12_set l E A (d - 1)  (by omega)  e238 am236) (hc_rb rfl) rfl (fun am239 ha240 => ?_)
              refine hr_aload_n hC dX13_call_444 rfl ?_
              refine hr_gO 13 hC F14_5 rfl dX13_call_445 q800 ?_
              obtain ⟨r241, e242, h⟩ := hx_bind h
              refine hs_callV hC 13 [] _ dX13_call_448 q1923 q1924 q1925 q326 q1926 np_X12 rfl OB_13 pd_X12_call (Nat.le_of_ble_eq_true rfl) hd1 (okX12_call l E A (d - 1)  (by omega)  e242 am239) (hc_rb rfl) rfl (fun am243 ha244 => ?_)
              obtain rfl := Option.some.inj h
              exact hr_sub _ rfl (J230 am243)
            · rw [if_neg c227] at h
              refine hr_aload_n hC dX13_call_379 rfl ?_
              refine hr_gO 13 hC F14_5 rfl dX13_call_380 q800 ?_
              refine hr_iconst (v := 1) hC dX13_call_383 rfl ?_
              refine hr_aload_n hC dX13_call_384 rfl ?_
              refine hr_gA hC F14_8 rfl dX13_call_385 q803 ?_
              refine hr_iload hC dX13_call_388 rfl ?_
              obtain ⟨c245, h⟩ := hk_ok h
              refine hs_iald hC A14_8 c245 dX13_call_390 ?_
              obtain ⟨r246, e247, h⟩ := hx_bind h
              refine hs_callV hC 13 [_, _] _ dX13_call_391 q1904 q1905 q1906 q326 q1907 np_X12 rfl OB_13 pd_X12_jump (Nat.le_of_ble_eq_true rfl) hd1 (okX12_jump l E A (d - 1)  (by omega)  e247 am225) (hc_rb rfl) rfl (fun am248 ha249 => ?_)
              refine hr_goto hC 451 dX13_call_394 (by decide) ?_
              obtain rfl := Option.some.inj h
              exact hr_sub _ rfl (J230 am248)
          clear h
          have h := e207
          refine hr_if_ge (x := _) hC 301 dX13_call_288 (by decide) (fun c205 => ?_) (fun c205 => ?_)
          · rw [if_pos c205] at h
            obtain rfl := Option.some.inj h
            exact hr_sub _ rfl (J208 am203)
          · rw [if_neg c205] at h
            refine hr_iload_n hC dX13_call_291 rfl ?_
            refine hr_bipush (v := 10) hC dX13_call_292 rfl ?_
            refine hr_icmp_ge (x := _) hC 301 dX13_call_294 (by decide) (fun c211 => ?_) (fun c211 => ?_)
            · rw [if_pos c211] at h
              obtain rfl := Option.some.inj h
              exact hr_sub _ rfl (J208 am203)
            · rw [if_neg c211] at h
              refine hr_aload_n hC dX13_call_297 rfl ?_
              obtain ⟨r212, e213, h⟩ := hx_bind h
              refine hs_callV hC 14 [] _ dX13_call_298 q1979 q1981 qs103 q327 q1982 np_X13 rfl OB_14 pd_X13_takeWork (Nat.le_of_ble_eq_true rfl) hd1 (okX13_takeWork l E A (d - 1)  (by omega)  e213 am203) (hc_rb rfl) rfl (fun am214 ha215 => ?_)
              obtain rfl := Option.some.inj h
              exact hr_sub _ rfl (J208 am214)
        · rw [if_neg c194] at h
          refine hr_iload_n hC dX13_call_105 rfl ?_
          refine hr_bipush (v := 14) hC dX13_call_106 rfl ?_
          refine hr_icmp_eq (x := _) hC 129 dX13_call_108 (by decide) (fun c272 => ?_) (fun c272 => ?_)
          · rw [if_pos c272] at h
            refine hr_iconst (v := 0) hC dX13_call_129 rfl ?_
            refine hr_istore hC dX13_call_130 (by decide) ?_
            refine hr_aload_n hC dX13_call_132 rfl ?_
            refine hr_gO 6 hC F14_0 rfl dX13_call_133 q795 ?_
            refine hr_iload_n hC dX13_call_136 rfl ?_
            obtain ⟨r273, e274, h⟩ := hx_bind h
            refine hs_callV0 hC 6 [_] _ dX13_call_137 q2048 q1576 q1577 q320 q1578 np_X6 rfl OB_6 pd_X6_first (Nat.le_of_ble_eq_true rfl) hd1 (okX6_first l E A (d - 1)  (by omega)  e274 am) rfl ?_
            refine hr_istore hC dX13_call_140 (by decide) ?_
            obtain ⟨r277, e278, h⟩ := hx_bind h
            refine hr_sub _ rfl (ll_X13_call_142 n k0 rec hD hem IH hC n _ _ _ _ _ _ _ _ e278 (fun am281 => ?_) am)
            refine hr_iload hC dX13_call_286 rfl ?_
            obtain ⟨r284, e285, h⟩ := hx_bind h
            have J286 : ∀ am294, hc_At hc_V0 E 9 X 301 [(0, .ref (E.2.1 14)), (2, .int x2), (3, .int r1), (4, .int (r1 - 15)), (6, .int r277.2)] [] r284 am294 [] := by
              intro am294
              refine hr_aload_n hC dX13_call_301 rfl ?_
              refine hr_iload_n hC dX13_call_302 rfl ?_
              obtain ⟨r295, e296, h⟩ := hx_bind h
              refine hs_callV hC 14 [_] _ dX13_call_303 q2219 q2221 qs130 q327 q2222 np_X13 rfl OB_14 pd_X13_save (Nat.le_of_ble_eq_true rfl) hd1 (okX13_save l E A (d - 1) n (by omega)  e296 am294) (hc_rb rfl) rfl (fun am297 ha298 => ?_)
              refine hr_iconst (v := 0) hC dX13_call_306 rfl ?_
              refine hr_istore hC dX13_call_307 (by decide) ?_
              obtain ⟨r299, e300, h⟩ := hx_bind h
              refine hr_sub _ rfl (ll_X13_call_309 n k0 rec hD hem IH hC n _ _ _ _ _ _ _ e300 (fun am303 => ?_) am297)
              refine hr_iload hC dX13_call_374 rfl ?_
              obtain ⟨r306, e307, h⟩ := hx_bind h
              have J308 : ∀ am328, hc_At hc_V0 E 9 X 451 [(0, .ref (E.2.1 14)), (2, .int x2)] [] r306 am328 [] := by
                intro am328
                refine hr_aload_n hC dX13_call_451 rfl ?_
                refine hr_gO 13 hC F14_5 rfl dX13_call_452 q800 ?_
                refine hr_iconst (v := 5) hC dX13_call_455 rfl ?_
                refine hr_bipush (v := 10) hC dX13_call_456 rfl ?_
                obtain ⟨r329, e330, h⟩ := hx_bind h
                refine hs_callV hC 13 [_, _] _ dX13_call_458 q2007 q2008 q2009 q326 q2010 np_X12 rfl OB_13 pd_X12_move (Nat.le_of_ble_eq_true rfl) hd1 (okX12_move l E A (d - 1)  (by omega)  e330 am328) (hc_rb rfl) rfl (fun am331 ha332 => ?_)
                refine hr_aload_n hC dX13_call_461 rfl ?_
                refine hr_iload_n hC dX13_call_462 rfl ?_
                obtain ⟨r333, e334, h⟩ := hx_bind h
                refine hs_callV hC 14 [_] _ dX13_call_463 q2223 q2225 qs131 q327 q2226 np_X13 rfl OB_14 pd_X13_takeBack (Nat.le_of_ble_eq_true rfl) hd1 (okX13_takeBack l E A (d - 1) n (by omega)  e334 am331) (hc_rb rfl) rfl (fun am335 ha336 => ?_)
                refine hr_aload_n hC dX13_call_466 rfl ?_
                refine hr_gO 13 hC F14_5 rfl dX13_call_467 q800 ?_
                refine hr_aload_n hC dX13_call_470 rfl ?_
                refine hr_iload_n hC dX13_call_471 rfl ?_
                obtain ⟨r337, e338, h⟩ := hx_bind h
                refine hs_callV0 hC 14 [_] _ dX13_call_472 q2135 q2137 qs115 q327 q2138 np_X13 rfl OB_14 pd_X13_dest (Nat.le_of_ble_eq_true rfl) hd1 (okX13_dest l E A (d - 1)  (by omega)  e338 am335) rfl ?_
                refine hr_iconst (v := 5) hC dX13_call_475 rfl ?_
                obtain ⟨r341, e342, h⟩ := hx_bind h
                refine hs_callV hC 13 [_, _] _ dX13_call_476 q2007 q2008 q2009 q326 q2010 np_X12 rfl OB_13 pd_X12_move (Nat.le_of_ble_eq_true rfl) hd1 (okX12_move l E A (d - 1)  (by omega)  e342 am335) (hc_rb rfl) rfl (fun am343 ha344 => ?_)
                refine hr_aload_n hC dX13_call_479 rfl ?_
                refine hr_iload_n hC dX13_call_480 rfl ?_
                obtain ⟨r345, e346, h⟩ := hx_bind h
                refine hs_callV hC 14 [_] _ dX13_call_481 q2142 q2144 qs116 q327 q2145 np_X13 rfl OB_14 pd_X13_keep (Nat.le_of_ble_eq_true rfl) hd1 (okX13_keep l E A (d - 1)  (by omega)  e346 am343) (hc_rb rfl) rfl (fun am347 ha348 => ?_)
                obtain rfl := Option.some.inj h
                exact hr_iret hC dX13_call_484
              clear h
              have h := e307
              refine hr_if_lt (x := _) hC 397 dX13_call_376 (by decide) (fun c305 => ?_) (fun c305 => ?_)
              · rw [if_pos c305] at h
                refine hr_iconst (v := 0) hC dX13_call_397 rfl ?_
                refine hr_istore hC dX13_call_398 (by decide) ?_
                obtain ⟨r310, e311, h⟩ := hx_bind h
                refine hr_sub _ rfl (ll_X13_call_400 n k0 rec hD hem IH hC n _ _ _ _ _ _ e311 (fun am314 => ?_) am303)
                refine hr_aload_n hC dX13_call_434 rfl ?_
                refine hr_gO 13 hC F14_5 rfl dX13_call_435 q800 ?_
                refine hr_bipush (v := 17) hC dX13_call_438 rfl ?_
                refine hr_iload_n hC dX13_call_440 rfl ?_
                obtain ⟨r315, e316, h⟩ := hx_bind h
                refine hs_callV hC 13 [_, _] _ dX13_call_441 q1908 q1909 q1910 q326 q1911 np_X12 rfl OB_13 pd_X12_set (Nat.le_of_ble_eq_true rfl) hd1 (okX12_set l E A (d - 1)  (by omega)  e316 am314) (hc_rb rfl) rfl (fun am317 ha318 => ?_)
                refine hr_aload_n hC dX13_call_444 rfl ?_
                refine hr_gO 13 hC F14_5 rfl dX13_call_445 q800 ?_
                obtain ⟨r319, e320, h⟩ := hx_bind h
                refine hs_callV hC 13 [] _ dX13_call_448 q1923 q1924 q1925 q326 q1926 np_X12 rfl OB_13 pd_X12_call (Nat.le_of_ble_eq_true rfl) hd1 (okX12_call l E A (d - 1)  (by omega)  e320 am317) (hc_rb rfl) rfl (fun am321 ha322 => ?_)
                obtain rfl := Option.some.inj h
                exact hr_sub _ rfl (J308 am321)
              · rw [if_neg c305] at h
                refine hr_aload_n hC dX13_call_379 rfl ?_
                refine hr_gO 13 hC F14_5 rfl dX13_call_380 q800 ?_
                refine hr_iconst (v := 1) hC dX13_call_383 rfl ?_
                refine hr_aload_n hC dX13_call_384 rfl ?_
                refine hr_gA hC F14_8 rfl dX13_call_385 q803 ?_
                refine hr_iload hC dX13_call_388 rfl ?_
                obtain ⟨c323, h⟩ := hk_ok h
                refine hs_iald hC A14_8 c323 dX13_call_390 ?_
                obtain ⟨r324, e325, h⟩ := hx_bind h
                refine hs_callV hC 13 [_, _] _ dX13_call_391 q1904 q1905 q1906 q326 q1907 np_X12 rfl OB_13 pd_X12_jump (Nat.le_of_ble_eq_true rfl) hd1 (okX12_jump l E A (d - 1)  (by omega)  e325 am303) (hc_rb rfl) rfl (fun am326 ha327 => ?_)
                refine hr_goto hC 451 dX13_call_394 (by decide) ?_
                obtain rfl := Option.some.inj h
                exact hr_sub _ rfl (J308 am326)
            clear h
            have h := e285
            refine hr_if_ge (x := _) hC 301 dX13_call_288 (by decide) (fun c283 => ?_) (fun c283 => ?_)
            · rw [if_pos c283] at h
              obtain rfl := Option.some.inj h
              exact hr_sub _ rfl (J286 am281)
            · rw [if_neg c283] at h
              refine hr_iload_n hC dX13_call_291 rfl ?_
              refine hr_bipush (v := 10) hC dX13_call_292 rfl ?_
              refine hr_icmp_ge (x := _) hC 301 dX13_call_294 (by decide) (fun c289 => ?_) (fun c289 => ?_)
              · rw [if_pos c289] at h
                obtain rfl := Option.some.inj h
                exact hr_sub _ rfl (J286 am281)
              · rw [if_neg c289] at h
                refine hr_aload_n hC dX13_call_297 rfl ?_
                obtain ⟨r290, e291, h⟩ := hx_bind h
                refine hs_callV hC 14 [] _ dX13_call_298 q1979 q1981 qs103 q327 q1982 np_X13 rfl OB_14 pd_X13_takeWork (Nat.le_of_ble_eq_true rfl) hd1 (okX13_takeWork l E A (d - 1)  (by omega)  e291 am281) (hc_rb rfl) rfl (fun am292 ha293 => ?_)
                obtain rfl := Option.some.inj h
                exact hr_sub _ rfl (J286 am292)
          · rw [if_neg c272] at h
            refine hr_aload_n hC dX13_call_111 rfl ?_
            refine hr_iload_n hC dX13_call_112 rfl ?_
            refine hr_bipush (v := 10) hC dX13_call_113 rfl ?_
            refine hr_isub hC dX13_call_115 ?_
            refine hr_aload_n hC dX13_call_116 rfl ?_
            refine hr_gO 6 hC F14_0 rfl dX13_call_117 q795 ?_
            refine hr_iload_n hC dX13_call_120 rfl ?_
            obtain ⟨r349, e350, h⟩ := hx_bind h
            refine hs_callV0 hC 6 [_] _ dX13_call_121 q2048 q1576 q1577 q320 q1578 np_X6 rfl OB_6 pd_X6_first (Nat.le_of_ble_eq_true rfl) hd1 (okX6_first l E A (d - 1)  (by omega)  e350 am) rfl ?_
            refine hr_iload_n hC dX13_call_124 rfl ?_
            obtain ⟨r353, e354, h⟩ := hx_bind h
            refine hs_callV hC 14 [_, _, _] _ dX13_call_125 q2191 q2193 qs126 q327 q2194 np_X13 rfl OB_14 pd_X13_own (Nat.le_of_ble_eq_true rfl) hd1 (IH _ _ _ _ e354 am) (hc_rb rfl) rfl (fun am355 ha356 => ?_)
            obtain rfl := Option.some.inj h
            exact hr_iret hC dX13_call_128
    · rw [if_neg c20] at h
      refine hr_aload_n hC dX13_call_47 rfl ?_
      refine hr_gO 1 hC F14_3 rfl dX13_call_48 q798 ?_
      refine hr_iload_n hC dX13_call_51 rfl ?_
      obtain ⟨r357, e358, h⟩ := hx_bind h
      refine hs_callV0 hC 1 [_] _ dX13_call_52 q2189 q1667 q1668 q316 q1669 np_X2 rfl OB_1 pd_X2_takes (Nat.le_of_ble_eq_true rfl) hd1 (okX2_takes l E A (d - 1)  (by omega)  e358 am) rfl ?_
      refine hr_iconst (v := 1) hC dX13_call_55 rfl ?_
      obtain ⟨c361, h⟩ := hk_ok h
      refine hr_schar hC c361 dX13_call_56 q2190 hd8 (Nat.le_of_ble_eq_true rfl) ?_
      refine hr_bipush (v := 98) hC dX13_call_59 rfl ?_
      refine hr_icmp_ne (x := _) hC 94 dX13_call_61 (by decide) (fun c363 => ?_) (fun c363 => ?_)
      · rw [if_neg c363] at h
        refine hr_iload hC dX13_call_94 rfl ?_
        refine hr_if_ge (x := _) hC 129 dX13_call_96 (by decide) (fun c365 => ?_) (fun c365 => ?_)
        · rw [if_pos c365] at h
          refine hr_iconst (v := 0) hC dX13_call_129 rfl ?_
          refine hr_istore hC dX13_call_130 (by decide) ?_
          refine hr_aload_n hC dX13_call_132 rfl ?_
          refine hr_gO 6 hC F14_0 rfl dX13_call_133 q795 ?_
          refine hr_iload_n hC dX13_call_136 rfl ?_
          obtain ⟨r366, e367, h⟩ := hx_bind h
          refine hs_callV0 hC 6 [_] _ dX13_call_137 q2048 q1576 q1577 q320 q1578 np_X6 rfl OB_6 pd_X6_first (Nat.le_of_ble_eq_true rfl) hd1 (okX6_first l E A (d - 1)  (by omega)  e367 am) rfl ?_
          refine hr_istore hC dX13_call_140 (by decide) ?_
          obtain ⟨r370, e371, h⟩ := hx_bind h
          refine hr_sub _ rfl (ll_X13_call_142 n k0 rec hD hem IH hC n _ _ _ _ _ _ _ _ e371 (fun am374 => ?_) am)
          refine hr_iload hC dX13_call_286 rfl ?_
          obtain ⟨r377, e378, h⟩ := hx_bind h
          have J379 : ∀ am387, hc_At hc_V0 E 9 X 301 [(0, .ref (E.2.1 14)), (2, .int x2), (3, .int r1), (4, .int (r1 - 15)), (6, .int r370.2)] [] r377 am387 [] := by
            intro am387
            refine hr_aload_n hC dX13_call_301 rfl ?_
            refine hr_iload_n hC dX13_call_302 rfl ?_
            obtain ⟨r388, e389, h⟩ := hx_bind h
            refine hs_callV hC 14 [_] _ dX13_call_303 q2219 q2221 qs130 q327 q2222 np_X13 rfl OB_14 pd_X13_save (Nat.le_of_ble_eq_true rfl) hd1 (okX13_save l E A (d - 1) n (by omega)  e389 am387) (hc_rb rfl) rfl (fun am390 ha391 => ?_)
            refine hr_iconst (v := 0) hC dX13_call_306 rfl ?_
            refine hr_istore hC dX13_call_307 (by decide) ?_
            obtain ⟨r392, e393, h⟩ := hx_bind h
            refine hr_sub _ rfl (ll_X13_call_309 n k0 rec hD hem IH hC n _ _ _ _ _ _ _ e393 (fun am396 => ?_) am390)
            refine hr_iload hC dX13_call_374 rfl ?_
            obtain ⟨r399, e400, h⟩ := hx_bind h
            have J401 : ∀ am421, hc_At hc_V0 E 9 X 451 [(0, .ref (E.2.1 14)), (2, .int x2)] [] r399 am421 [] := by
              intro am421
              refine hr_aload_n hC dX13_call_451 rfl ?_
              refine hr_gO 13 hC F14_5 rfl dX13_call_452 q800 ?_
              refine hr_iconst (v := 5) hC dX13_call_455 rfl ?_
              refine hr_bipush (v := 10) hC dX13_call_456 rfl ?_
              obtain ⟨r422, e423, h⟩ := hx_bind h
              refine hs_callV hC 13 [_, _] _ dX13_call_458 q2007 q2008 q2009 q326 q2010 np_X12 rfl OB_13 pd_X12_move (Nat.le_of_ble_eq_true rfl) hd1 (okX12_move l E A (d - 1)  (by omega)  e423 am421) (hc_rb rfl) rfl (fun am424 ha425 => ?_)
              refine hr_aload_n hC dX13_call_461 rfl ?_
              refine hr_iload_n hC dX13_call_462 rfl ?_
              obtain ⟨r426, e427, h⟩ := hx_bind h
              refine hs_callV hC 14 [_] _ dX13_call_463 q2223 q2225 qs131 q327 q2226 np_X13 rfl OB_14 pd_X13_takeBack (Nat.le_of_ble_eq_true rfl) hd1 (okX13_takeBack l E A (d - 1) n (by omega)  e427 am424) (hc_rb rfl) rfl (fun am428 ha429 => ?_)
              refine hr_aload_n hC dX13_call_466 rfl ?_
              refine hr_gO 13 hC F14_5 rfl dX13_call_467 q800 ?_
              refine hr_aload_n hC dX13_call_470 rfl ?_
              refine hr_iload_n hC dX13_call_471 rfl ?_
              obtain ⟨r430, e431, h⟩ := hx_bind h
              refine hs_callV0 hC 14 [_] _ dX13_call_472 q2135 q2137 qs115 q327 q2138 np_X13 rfl OB_14 pd_X13_dest (Nat.le_of_ble_eq_true rfl) hd1 (okX13_dest l E A (d - 1)  (by omega)  e431 am428) rfl ?_
              refine hr_iconst (v := 5) hC dX13_call_475 rfl ?_
              obtain ⟨r434, e435, h⟩ := hx_bind h
              refine hs_callV hC 13 [_, _] _ dX13_call_476 q2007 q2008 q2009 q326 q2010 np_X12 rfl OB_13 pd_X12_move (Nat.le_of_ble_eq_true rfl) hd1 (okX12_move l E A (d - 1)  (by omega)  e435 am428) (hc_rb rfl) rfl (fun am436 ha437 => ?_)
              refine hr_aload_n hC dX13_call_479 rfl ?_
              refine hr_iload_n hC dX13_call_480 rfl ?_
              obtain ⟨r438, e439, h⟩ := hx_bind h
              refine hs_callV hC 14 [_] _ dX13_call_481 q2142 q2144 qs116 q327 q2145 np_X13 rfl OB_14 pd_X13_keep (Nat.le_of_ble_eq_true rfl) hd1 (okX13_keep l E A (d - 1)  (by omega)  e439 am436) (hc_rb rfl) rfl (fun am440 ha441 => ?_)
              obtain rfl := Option.some.inj h
              exact hr_iret hC dX13_call_484
            clear h
            have h := e400
            refine hr_if_lt (x := _) hC 397 dX13_call_376 (by decide) (fun c398 => ?_) (fun c398 => ?_)
            · rw [if_pos c398] at h
              refine hr_iconst (v := 0) hC dX13_call_397 rfl ?_
              refine hr_istore hC dX13_call_398 (by decide) ?_
              obtain ⟨r403, e404, h⟩ := hx_bind h
              refine hr_sub _ rfl (ll_X13_call_400 n k0 rec hD hem IH hC n _ _ _ _ _ _ e404 (fun am407 => ?_) am396)
              refine hr_aload_n hC dX13_call_434 rfl ?_
              refine hr_gO 13 hC F14_5 rfl dX13_call_435 q800 ?_
              refine hr_bipush (v := 17) hC dX13_call_438 rfl ?_
              refine hr_iload_n hC dX13_call_440 rfl ?_
              obtain ⟨r408, e409, h⟩ := hx_bind h
              refine hs_callV hC 13 [_, _] _ dX13_call_441 q1908 q1909 q1910 q326 q1911 np_X12 rfl OB_13 pd_X12_set (Nat.le_of_ble_eq_true rfl) hd1 (okX12_set l E A (d - 1)  (by omega)  e409 am407) (hc_rb rfl) rfl (fun am410 ha411 => ?_)
              refine hr_aload_n hC dX13_call_444 rfl ?_
              refine hr_gO 13 hC F14_5 rfl dX13_call_445 q800 ?_
              obtain ⟨r412, e413, h⟩ := hx_bind h
              refine hs_callV hC 13 [] _ dX13_call_448 q1923 q1924 q1925 q326 q1926 np_X12 rfl OB_13 pd_X12_call (Nat.le_of_ble_eq_true rfl) hd1 (okX12_call l E A (d - 1)  (by omega)  e413 am410) (hc_rb rfl) rfl (fun am414 ha415 => ?_)
              obtain rfl := Option.some.inj h
              exact hr_sub _ rfl (J401 am414)
            · rw [if_neg c398] at h
              refine hr_aload_n hC dX13_call_379 rfl ?_
              refine hr_gO 13 hC F14_5 rfl dX13_call_380 q800 ?_
              refine hr_iconst (v := 1) hC dX13_call_383 rfl ?_
              refine hr_aload_n hC dX13_call_384 rfl ?_
              refine hr_gA hC F14_8 rfl dX13_call_385 q803 ?_
              refine hr_iload hC dX13_call_388 rfl ?_
              obtain ⟨c416, h⟩ := hk_ok h
              refine hs_iald hC A14_8 c416 dX13_call_390 ?_
              obtain ⟨r417, e418, h⟩ := hx_bind h
              refine hs_callV hC 13 [_, _] _ dX13_call_391 q1904 q1905 q1906 q326 q1907 np_X12 rfl OB_13 pd_X12_jump (Nat.le_of_ble_eq_true rfl) hd1 (okX12_jump l E A (d - 1)  (by omega)  e418 am396) (hc_rb rfl) rfl (fun am419 ha420 => ?_)
              refine hr_goto hC 451 dX13_call_394 (by decide) ?_
              obtain rfl := Option.some.inj h
              exact hr_sub _ rfl (J401 am419)
          clear h
          have h := e378
          refine hr_if_ge (x := _) hC 301 dX13_call_288 (by decide) (fun c376 => ?_) (fun c376 => ?_)
          · rw [if_pos c376] at h
            obtain rfl := Option.some.inj h
            exact hr_sub _ rfl (J379 am374)
          · rw [if_neg c376] at h
            refine hr_iload_n hC dX13_call_291 rfl ?_
            refine hr_bipush (v := 10) hC dX13_call_292 rfl ?_
            refine hr_icmp_ge (x := _) hC 301 dX13_call_294 (by decide) (fun c382 => ?_) (fun c382 => ?_)
            · rw [if_pos c382] at h
              obtain rfl := Option.some.inj h
              exact hr_sub _ rfl (J379 am374)
            · rw [if_neg c382] at h
              refine hr_aload_n hC dX13_call_297 rfl ?_
              obtain ⟨r383, e384, h⟩ := hx_bind h
              refine hs_callV hC 14 [] _ dX13_call_298 q1979 q1981 qs103 q327 q1982 np_X13 rfl OB_14 pd_X13_takeWork (Nat.le_of_ble_eq_true rfl) hd1 (okX13_takeWork l E A (d - 1)  (by omega)  e384 am374) (hc_rb rfl) rfl (fun am385 ha386 => ?_)
              obtain rfl := Option.some.inj h
              exact hr_sub _ rfl (J379 am385)
        · rw [if_neg c365] at h
          refine hr_iload_n hC dX13_call_99 rfl ?_
          refine hr_bipush (v := 10) hC dX13_call_100 rfl ?_
          refine hr_icmp_lt (x := _) hC 129 dX13_call_102 (by decide) (fun c443 => ?_) (fun c443 => ?_)
          · rw [if_pos c443] at h
            refine hr_iconst (v := 0) hC dX13_call_129 rfl ?_
            refine hr_istore hC dX13_call_130 (by decide) ?_
            refine hr_aload_n hC dX13_call_132 rfl ?_
            refine hr_gO 6 hC F14_0 rfl dX13_call_133 q795 ?_
            refine hr_iload_n hC dX13_call_136 rfl ?_
            obtain ⟨r444, e445, h⟩ := hx_bind h
            refine hs_callV0 hC 6 [_] _ dX13_call_137 q2048 q1576 q1577 q320 q1578 np_X6 rfl OB_6 pd_X6_first (Nat.le_of_ble_eq_true rfl) hd1 (okX6_first l E A (d - 1)  (by omega)  e445 am) rfl ?_
            refine hr_istore hC dX13_call_140 (by decide) ?_
            obtain ⟨r448, e449, h⟩ := hx_bind h
            refine hr_sub _ rfl (ll_X13_call_142 n k0 rec hD hem IH hC n _ _ _ _ _ _ _ _ e449 (fun am452 => ?_) am)
            refine hr_iload hC dX13_call_286 rfl ?_
            obtain ⟨r455, e456, h⟩ := hx_bind h
            have J457 : ∀ am465, hc_At hc_V0 E 9 X 301 [(0, .ref (E.2.1 14)), (2, .int x2), (3, .int r1), (4, .int (r1 - 15)), (6, .int r448.2)] [] r455 am465 [] := by
              intro am465
              refine hr_aload_n hC dX13_call_301 rfl ?_
              refine hr_iload_n hC dX13_call_302 rfl ?_
              obtain ⟨r466, e467, h⟩ := hx_bind h
              refine hs_callV hC 14 [_] _ dX13_call_303 q2219 q2221 qs130 q327 q2222 np_X13 rfl OB_14 pd_X13_save (Nat.le_of_ble_eq_true rfl) hd1 (okX13_save l E A (d - 1) n (by omega)  e467 am465) (hc_rb rfl) rfl (fun am468 ha469 => ?_)
              refine hr_iconst (v := 0) hC dX13_call_306 rfl ?_
              refine hr_istore hC dX13_call_307 (by decide) ?_
              obtain ⟨r470, e471, h⟩ := hx_bind h
              refine hr_sub _ rfl (ll_X13_call_309 n k0 rec hD hem IH hC n _ _ _ _ _ _ _ e471 (fun am474 => ?_) am468)
              refine hr_iload hC dX13_call_374 rfl ?_
              obtain ⟨r477, e478, h⟩ := hx_bind h
              have J479 : ∀ am499, hc_At hc_V0 E 9 X 451 [(0, .ref (E.2.1 14)), (2, .int x2)] [] r477 am499 [] := by
                intro am499
                refine hr_aload_n hC dX13_call_451 rfl ?_
                refine hr_gO 13 hC F14_5 rfl dX13_call_452 q800 ?_
                refine hr_iconst (v := 5) hC dX13_call_455 rfl ?_
                refine hr_bipush (v := 10) hC dX13_call_456 rfl ?_
                obtain ⟨r500, e501, h⟩ := hx_bind h
                refine hs_callV hC 13 [_, _] _ dX13_call_458 q2007 q2008 q2009 q326 q2010 np_X12 rfl OB_13 pd_X12_move (Nat.le_of_ble_eq_true rfl) hd1 (okX12_move l E A (d - 1)  (by omega)  e501 am499) (hc_rb rfl) rfl (fun am502 ha503 => ?_)
                refine hr_aload_n hC dX13_call_461 rfl ?_
                refine hr_iload_n hC dX13_call_462 rfl ?_
                obtain ⟨r504, e505, h⟩ := hx_bind h
                refine hs_callV hC 14 [_] _ dX13_call_463 q2223 q2225 qs131 q327 q2226 np_X13 rfl OB_14 pd_X13_takeBack (Nat.le_of_ble_eq_true rfl) hd1 (okX13_takeBack l E A (d - 1) n (by omega)  e505 am502) (hc_rb rfl) rfl (fun am506 ha507 => ?_)
                refine hr_aload_n hC dX13_call_466 rfl ?_
                refine hr_gO 13 hC F14_5 rfl dX13_call_467 q800 ?_
                refine hr_aload_n hC dX13_call_470 rfl ?_
                refine hr_iload_n hC dX13_call_471 rfl ?_
                obtain ⟨r508, e509, h⟩ := hx_bind h
                refine hs_callV0 hC 14 [_] _ dX13_call_472 q2135 q2137 qs115 q327 q2138 np_X13 rfl OB_14 pd_X13_dest (Nat.le_of_ble_eq_true rfl) hd1 (okX13_dest l E A (d - 1)  (by omega)  e509 am506) rfl ?_
                refine hr_iconst (v := 5) hC dX13_call_475 rfl ?_
                obtain ⟨r512, e513, h⟩ := hx_bind h
                refine hs_callV hC 13 [_, _] _ dX13_call_476 q2007 q2008 q2009 q326 q2010 np_X12 rfl OB_13 pd_X12_move (Nat.le_of_ble_eq_true rfl) hd1 (okX12_move l E A (d - 1)  (by omega)  e513 am506) (hc_rb rfl) rfl (fun am514 ha515 => ?_)
                refine hr_aload_n hC dX13_call_479 rfl ?_
                refine hr_iload_n hC dX13_call_480 rfl ?_
                obtain ⟨r516, e517, h⟩ := hx_bind h
                refine hs_callV hC 14 [_] _ dX13_call_481 q2142 q2144 qs116 q327 q2145 np_X13 rfl OB_14 pd_X13_keep (Nat.le_of_ble_eq_true rfl) hd1 (okX13_keep l E A (d - 1)  (by omega)  e517 am514) (hc_rb rfl) rfl (fun am518 ha519 => ?_)
                obtain rfl := Option.some.inj h
                exact hr_iret hC dX13_call_484
              clear h
              have h := e478
              refine hr_if_lt (x := _) hC 397 dX13_call_376 (by decide) (fun c476 => ?_) (fun c476 => ?_)
              · rw [if_pos c476] at h
                refine hr_iconst (v := 0) hC dX13_call_397 rfl ?_
                refine hr_istore hC dX13_call_398 (by decide) ?_
                obtain ⟨r481, e482, h⟩ := hx_bind h
                refine hr_sub _ rfl (ll_X13_call_400 n k0 rec hD hem IH hC n _ _ _ _ _ _ e482 (fun am485 => ?_) am474)
                refine hr_aload_n hC dX13_call_434 rfl ?_
                refine hr_gO 13 hC F14_5 rfl dX13_call_435 q800 ?_
                refine hr_bipush (v := 17) hC dX13_call_438 rfl ?_
                refine hr_iload_n hC dX13_call_440 rfl ?_
                obtain ⟨r486, e487, h⟩ := hx_bind h
                refine hs_callV hC 13 [_, _] _ dX13_call_441 q1908 q1909 q1910 q326 q1911 np_X12 rfl OB_13 pd_X12_set (Nat.le_of_ble_eq_true rfl) hd1 (okX12_set l E A (d - 1)  (by omega)  e487 am485) (hc_rb rfl) rfl (fun am488 ha489 => ?_)
                refine hr_aload_n hC dX13_call_444 rfl ?_
                refine hr_gO 13 hC F14_5 rfl dX13_call_445 q800 ?_
                obtain ⟨r490, e491, h⟩ := hx_bind h
                refine hs_callV hC 13 [] _ dX13_call_448 q1923 q1924 q1925 q326 q1926 np_X12 rfl OB_13 pd_X12_call (Nat.le_of_ble_eq_true rfl) hd1 (okX12_call l E A (d - 1)  (by omega)  e491 am488) (hc_rb rfl) rfl (fun am492 ha493 => ?_)
                obtain rfl := Option.some.inj h
                exact hr_sub _ rfl (J479 am492)
              · rw [if_neg c476] at h
                refine hr_aload_n hC dX13_call_379 rfl ?_
                refine hr_gO 13 hC F14_5 rfl dX13_call_380 q800 ?_
                refine hr_iconst (v := 1) hC dX13_call_383 rfl ?_
                refine hr_aload_n hC dX13_call_384 rfl ?_
                refine hr_gA hC F14_8 rfl dX13_call_385 q803 ?_
                refine hr_iload hC dX13_call_388 rfl ?_
                obtain ⟨c494, h⟩ := hk_ok h
                refine hs_iald hC A14_8 c494 dX13_call_390 ?_
                obtain ⟨r495, e496, h⟩ := hx_bind h
                refine hs_callV hC 13 [_, _] _ dX13_call_391 q1904 q1905 q1906 q326 q1907 np_X12 rfl OB_13 pd_X12_jump (Nat.le_of_ble_eq_true rfl) hd1 (okX12_jump l E A (d - 1)  (by omega)  e496 am474) (hc_rb rfl) rfl (fun am497 ha498 => ?_)
                refine hr_goto hC 451 dX13_call_394 (by decide) ?_
                obtain rfl := Option.some.inj h
                exact hr_sub _ rfl (J479 am497)
            clear h
            have h := e456
            refine hr_if_ge (x := _) hC 301 dX13_call_288 (by decide) (fun c454 => ?_) (fun c454 => ?_)
            · rw [if_pos c454] at h
              obtain rfl := Option.some.inj h
              exact hr_sub _ rfl (J457 am452)
            · rw [if_neg c454] at h
              refine hr_iload_n hC dX13_call_291 rfl ?_
              refine hr_bipush (v := 10) hC dX13_call_292 rfl ?_
              refine hr_icmp_ge (x := _) hC 301 dX13_call_294 (by decide) (fun c460 => ?_) (fun c460 => ?_)
              · rw [if_pos c460] at h
                obtain rfl := Option.some.inj h
                exact hr_sub _ rfl (J457 am452)
              · rw [if_neg c460] at h
                refine hr_aload_n hC dX13_call_297 rfl ?_
                obtain ⟨r461, e462, h⟩ := hx_bind h
                refine hs_callV hC 14 [] _ dX13_call_298 q1979 q1981 qs103 q327 q1982 np_X13 rfl OB_14 pd_X13_takeWork (Nat.le_of_ble_eq_true rfl) hd1 (okX13_takeWork l E A (d - 1)  (by omega)  e462 am452) (hc_rb rfl) rfl (fun am463 ha464 => ?_)
                obtain rfl := Option.some.inj h
                exact hr_sub _ rfl (J457 am463)
          · rw [if_neg c443] at h
            refine hr_iload_n hC dX13_call_105 rfl ?_
            refine hr_bipush (v := 14) hC dX13_call_106 rfl ?_
            refine hr_icmp_eq (x := _) hC 129 dX13_call_108 (by decide) (fun c521 => ?_) (fun c521 => ?_)
            · rw [if_pos c521] at h
              refine hr_iconst (v := 0) hC dX13_call_129 rfl ?_
              refine hr_istore hC dX13_call_130 (by decide) ?_
              refine hr_aload_n hC dX13_call_132 rfl ?_
              refine hr_gO 6 hC F14_0 rfl dX13_call_133 q795 ?_
              refine hr_iload_n hC dX13_call_136 rfl ?_
              obtain ⟨r522, e523, h⟩ := hx_bind h
              refine hs_callV0 hC 6 [_] _ dX13_call_137 q2048 q1576 q1577 q320 q1578 np_X6 rfl OB_6 pd_X6_first (Nat.le_of_ble_eq_true rfl) hd1 (okX6_first l E A (d - 1)  (by omega)  e523 am) rfl ?_
              refine hr_istore hC dX13_call_140 (by decide) ?_
              obtain ⟨r526, e527, h⟩ := hx_bind h
              refine hr_sub _ rfl (ll_X13_call_142 n k0 rec hD hem IH hC n _ _ _ _ _ _ _ _ e527 (fun am530 => ?_) am)
              refine hr_iload hC dX13_call_286 rfl ?_
              obtain ⟨r533, e534, h⟩ := hx_bind h
              have J535 : ∀ am543, hc_At hc_V0 E 9 X 301 [(0, .ref (E.2.1 14)), (2, .int x2), (3, .int r1), (4, .int (r1 - 15)), (6, .int r526.2)] [] r533 am543 [] := by
                intro am543
                refine hr_aload_n hC dX13_call_301 rfl ?_
                refine hr_iload_n hC dX13_call_302 rfl ?_
                obtain ⟨r544, e545, h⟩ := hx_bind h
                refine hs_callV hC 14 [_] _ dX13_call_303 q2219 q2221 qs130 q327 q2222 np_X13 rfl OB_14 pd_X13_save (Nat.le_of_ble_eq_true rfl) hd1 (okX13_save l E A (d - 1) n (by omega)  e545 am543) (hc_rb rfl) rfl (fun am546 ha547 => ?_)
                refine hr_iconst (v := 0) hC dX13_call_306 rfl ?_
                refine hr_istore hC dX13_call_307 (by decide) ?_
                obtain ⟨r548, e549, h⟩ := hx_bind h
                refine hr_sub _ rfl (ll_X13_call_309 n k0 rec hD hem IH hC n _ _ _ _ _ _ _ e549 (fun am552 => ?_) am546)
                refine hr_iload hC dX13_call_374 rfl ?_
                obtain ⟨r555, e556, h⟩ := hx_bind h
                have J557 : ∀ am577, hc_At hc_V0 E 9 X 451 [(0, .ref (E.2.1 14)), (2, .int x2)] [] r555 am577 [] := by
                  intro am577
                  refine hr_aload_n hC dX13_call_451 rfl ?_
                  refine hr_gO 13 hC F14_5 rfl dX13_call_452 q800 ?_
                  refine hr_iconst (v := 5) hC dX13_call_455 rfl ?_
                  refine hr_bipush (v := 10) hC dX13_call_456 rfl ?_
                  obtain ⟨r578, e579, h⟩ := hx_bind h
                  refine hs_callV hC 13 [_, _] _ dX13_call_458 q2007 q2008 q2009 q326 q2010 np_X12 rfl OB_13 pd_X12_move (Nat.le_of_ble_eq_true rfl) hd1 (okX12_move l E A (d - 1)  (by omega)  e579 am577) (hc_rb rfl) rfl (fun am580 ha581 => ?_)
                  refine hr_aload_n hC dX13_call_461 rfl ?_
                  refine hr_iload_n hC dX13_call_462 rfl ?_
                  obtain ⟨r582, e583, h⟩ := hx_bind h
                  refine hs_callV hC 14 [_] _ dX13_call_463 q2223 q2225 qs131 q327 q2226 np_X13 rfl OB_14 pd_X13_takeBack (Nat.le_of_ble_eq_true rfl) hd1 (okX13_takeBack l E A (d - 1) n (by omega)  e583 am580) (hc_rb rfl) rfl (fun am584 ha585 => ?_)
                  refine hr_aload_n hC dX13_call_466 rfl ?_
                  refine hr_gO 13 hC F14_5 rfl dX13_call_467 q800 ?_
                  refine hr_aload_n hC dX13_call_470 rfl ?_
                  refine hr_iload_n hC dX13_call_471 rfl ?_
                  obtain ⟨r586, e587, h⟩ := hx_bind h
                  refine hs_callV0 hC 14 [_] _ dX13_call_472 q2135 q2137 qs115 q327 q2138 np_X13 rfl OB_14 pd_X13_dest (Nat.le_of_ble_eq_true rfl) hd1 (okX13_dest l E A (d - 1)  (by omega)  e587 am584) rfl ?_
                  refine hr_iconst (v := 5) hC dX13_call_475 rfl ?_
                  obtain ⟨r590, e591, h⟩ := hx_bind h
                  refine hs_callV hC 13 [_, _] _ dX13_call_476 q2007 q2008 q2009 q326 q2010 np_X12 rfl OB_13 pd_X12_move (Nat.le_of_ble_eq_true rfl) hd1 (okX12_move l E A (d - 1)  (by omega)  e591 am584) (hc_rb rfl) rfl (fun am592 ha593 => ?_)
                  refine hr_aload_n hC dX13_call_479 rfl ?_
                  refine hr_iload_n hC dX13_call_480 rfl ?_
                  obtain ⟨r594, e595, h⟩ := hx_bind h
                  refine hs_callV hC 14 [_] _ dX13_call_481 q2142 q2144 qs116 q327 q2145 np_X13 rfl OB_14 pd_X13_keep (Nat.le_of_ble_eq_true rfl) hd1 (okX13_keep l E A (d - 1)  (by omega)  e595 am592) (hc_rb rfl) rfl (fun am596 ha597 => ?_)
                  obtain rfl := Option.some.inj h
                  exact hr_iret hC dX13_call_484
                clear h
                have h := e556
                refine hr_if_lt (x := _) hC 397 dX13_call_376 (by decide) (fun c554 => ?_) (fun c554 => ?_)
                · rw [if_pos c554] at h
                  refine hr_iconst (v := 0) hC dX13_call_397 rfl ?_
                  refine hr_istore hC dX13_call_398 (by decide) ?_
                  obtain ⟨r559, e560, h⟩ := hx_bind h
                  refine hr_sub _ rfl (ll_X13_call_400 n k0 rec hD hem IH hC n _ _ _ _ _ _ e560 (fun am563 => ?_) am552)
                  refine hr_aload_n hC dX13_call_434 rfl ?_
                  refine hr_gO 13 hC F14_5 rfl dX13_call_435 q800 ?_
                  refine hr_bipush (v := 17) hC dX13_call_438 rfl ?_
                  refine hr_iload_n hC dX13_call_440 rfl ?_
                  obtain ⟨r564, e565, h⟩ := hx_bind h
                  refine hs_callV hC 13 [_, _] _ dX13_call_441 q1908 q1909 q1910 q326 q1911 np_X12 rfl OB_13 pd_X12_set (Nat.le_of_ble_eq_true rfl) hd1 (okX12_set l E A (d - 1)  (by omega)  e565 am563) (hc_rb rfl) rfl (fun am566 ha567 => ?_)
                  refine hr_aload_n hC dX13_call_444 rfl ?_
                  refine hr_gO 13 hC F14_5 rfl dX13_call_445 q800 ?_
                  obtain ⟨r568, e569, h⟩ := hx_bind h
                  refine hs_callV hC 13 [] _ dX13_call_448 q1923 q1924 q1925 q326 q1926 np_X12 rfl OB_13 pd_X12_call (Nat.le_of_ble_eq_true rfl) hd1 (okX12_call l E A (d - 1)  (by omega)  e569 am566) (hc_rb rfl) rfl (fun am570 ha571 => ?_)
                  obtain rfl := Option.some.inj h
                  exact hr_sub _ rfl (J557 am570)
                · rw [if_neg c554] at h
                  refine hr_aload_n hC dX13_call_379 rfl ?_
                  refine hr_gO 13 hC F14_5 rfl dX13_call_380 q800 ?_
                  refine hr_iconst (v := 1) hC dX13_call_383 rfl ?_
                  refine hr_aload_n hC dX13_call_384 rfl ?_
                  refine hr_gA hC F14_8 rfl dX13_call_385 q803 ?_
                  refine hr_iload hC dX13_call_388 rfl ?_
                  obtain ⟨c572, h⟩ := hk_ok h
                  refine hs_iald hC A14_8 c572 dX13_call_390 ?_
                  obtain ⟨r573, e574, h⟩ := hx_bind h
                  refine hs_callV hC 13 [_, _] _ dX13_call_391 q1904 q1905 q1906 q326 q1907 np_X12 rfl OB_13 pd_X12_jump (Nat.le_of_ble_eq_true rfl) hd1 (okX12_jump l E A (d - 1)  (by omega)  e574 am552) (hc_rb rfl) rfl (fun am575 ha576 => ?_)
                  refine hr_goto hC 451 dX13_call_394 (by decide) ?_
                  obtain rfl := Option.some.inj h
                  exact hr_sub _ rfl (J557 am575)
              clear h
              have h := e534
              refine hr_if_ge (x := _) hC 301 dX13_call_288 (by decide) (fun c532 => ?_) (fun c532 => ?_)
              · rw [if_pos c532] at h
                obtain rfl := Option.some.inj h
                exact hr_sub _ rfl (J535 am530)
              · rw [if_neg c532] at h
                refine hr_iload_n hC dX13_call_291 rfl ?_
                refine hr_bipush (v := 10) hC dX13_call_292 rfl ?_
                refine hr_icmp_ge (x := _) hC 301 dX13_call_294 (by decide) (fun c538 => ?_) (fun c538 => ?_)
                · rw [if_pos c538] at h
                  obtain rfl := Option.some.inj h
                  exact hr_sub _ rfl (J535 am530)
                · rw [if_neg c538] at h
                  refine hr_aload_n hC dX13_call_297 rfl ?_
                  obtain ⟨r539, e540, h⟩ := hx_bind h
                  refine hs_callV hC 14 [] _ dX13_call_298 q1979 q1981 qs103 q327 q1982 np_X13 rfl OB_14 pd_X13_takeWork (Nat.le_of_ble_eq_true rfl) hd1 (okX13_takeWork l E A (d - 1)  (by omega)  e540 am530) (hc_rb rfl) rfl (fun am541 ha542 => ?_)
                  obtain rfl := Option.some.inj h
                  exact hr_sub _ rfl (J535 am541)
            · rw [if_neg c521] at h
              refine hr_aload_n hC dX13_call_111 rfl ?_
              refine hr_iload_n hC dX13_call_112 rfl ?_
              refine hr_bipush (v := 10) hC dX13_call_113 rfl ?_
              refine hr_isub hC dX13_call_115 ?_
              refine hr_aload_n hC dX13_call_116 rfl ?_
              refine hr_gO 6 hC F14_0 rfl dX13_call_117 q795 ?_
              refine hr_iload_n hC dX13_call_120 rfl ?_
              obtain ⟨r598, e599, h⟩ := hx_bind h
              refine hs_callV0 hC 6 [_] _ dX13_call_121 q2048 q1576 q1577 q320 q1578 np_X6 rfl OB_6 pd_X6_first (Nat.le_of_ble_eq_true rfl) hd1 (okX6_first l E A (d - 1)  (by omega)  e599 am) rfl ?_
              refine hr_iload_n hC dX13_call_124 rfl ?_
              obtain ⟨r602, e603, h⟩ := hx_bind h
              refine hs_callV hC 14 [_, _, _] _ dX13_call_125 q2191 q2193 qs126 q327 q2194 np_X13 rfl OB_14 pd_X13_own (Nat.le_of_ble_eq_true rfl) hd1 (IH _ _ _ _ e603 am) (hc_rb rfl) rfl (fun am604 ha605 => ?_)
              obtain rfl := Option.some.inj h
              exact hr_iret hC dX13_call_128
      · rw [if_pos c363] at h
        refine hr_aload_n hC dX13_call_64 rfl ?_
        refine hr_aload_n hC dX13_call_65 rfl ?_
        refine hr_gO 6 hC F14_0 rfl dX13_call_66 q795 ?_
        refine hr_aload_n hC dX13_call_69 rfl ?_
        refine hr_gO 6 hC F14_0 rfl dX13_call_70 q795 ?_
        refine hr_iload_n hC dX13_call_73 rfl ?_
        obtain ⟨r606, e607, h⟩ := hx_bind h
        refine hs_callV0 hC 6 [_] _ dX13_call_74 q2048 q1576 q1577 q320 q1578 np_X6 rfl OB_6 pd_X6_first (Nat.le_of_ble_eq_true rfl) hd1 (okX6_first l E A (d - 1)  (by omega)  e607 am) rfl ?_
        obtain ⟨r610, e611, h⟩ := hx_bind h
        refine hs_callV0 hC 6 [_] _ dX13_call_77 q2043 q1687 q1688 q320 q1689 np_X6 rfl OB_6 pd_X6_extra (Nat.le_of_ble_eq_true rfl) hd1 (okX6_extra l E A (d - 1)  (by omega)  e611 am) rfl ?_
        refine hr_aload_n hC dX13_call_80 rfl ?_
        refine hr_iload_n hC dX13_call_81 rfl ?_
        obtain ⟨r614, e615, h⟩ := hx_bind h
        refine hs_callV0 hC 14 [_] _ dX13_call_82 q2135 q2137 qs115 q327 q2138 np_X13 rfl OB_14 pd_X13_dest (Nat.le_of_ble_eq_true rfl) hd1 (okX13_dest l E A (d - 1)  (by omega)  e615 am) rfl ?_
        obtain ⟨r618, e619, h⟩ := hx_bind h
        refine hs_callV hC 14 [_, _] _ dX13_call_85 q2171 q2173 qs122 q327 q2174 np_X13 rfl OB_14 pd_X13_length (Nat.le_of_ble_eq_true rfl) hd1 (okX13_length l E A (d - 1)  (by omega)  e619 am) (hc_rb rfl) rfl (fun am620 ha621 => ?_)
        refine hr_aload_n hC dX13_call_88 rfl ?_
        refine hr_iload_n hC dX13_call_89 rfl ?_
        obtain ⟨r622, e623, h⟩ := hx_bind h
        refine hs_callV hC 14 [_] _ dX13_call_90 q2142 q2144 qs116 q327 q2145 np_X13 rfl OB_14 pd_X13_keep (Nat.le_of_ble_eq_true rfl) hd1 (okX13_keep l E A (d - 1)  (by omega)  e623 am620) (hc_rb rfl) rfl (fun am624 ha625 => ?_)
        obtain rfl := Option.some.inj h
        exact hr_iret hC dX13_call_93
  clear h
  have h := e8
  refine hr_if_lt (x := _) hC 39 dX13_call_17 (by decide) (fun c6 => ?_) (fun c6 => ?_)
  · rw [if_pos c6] at h
    refine hr_iconst (v := (-1)) hC dX13_call_39 rfl ?_
    obtain rfl := Option.some.inj h
    exact hr_sub _ rfl (J9)
  · rw [if_neg c6] at h
    refine hr_aload_n hC dX13_call_20 rfl ?_
    refine hr_gO 6 hC F14_0 rfl dX13_call_21 q795 ?_
    refine hr_aload_n hC dX13_call_24 rfl ?_
    refine hr_gO 8 hC F14_1 rfl dX13_call_25 q796 ?_
    refine hr_iload hC dX13_call_28 rfl ?_
    obtain ⟨r11, e12, h⟩ := hx_bind h
    refine hs_callV0 hC 8 [_] _ dX13_call_30 q1931 q1932 q1933 q322 q1934 np_X8 rfl OB_8 pd_X8_node (Nat.le_of_ble_eq_true rfl) hd1 (okX8_node l E A (d - 1)  (by omega)  e12 am) rfl ?_
    obtain ⟨r15, e16, h⟩ := hx_bind h
    refine hs_callV0 hC 6 [_] _ dX13_call_33 q2048 q1576 q1577 q320 q1578 np_X6 rfl OB_6 pd_X6_first (Nat.le_of_ble_eq_true rfl) hd1 (okX6_first l E A (d - 1)  (by omega)  e16 am) rfl ?_
    refine hr_goto hC 40 dX13_call_36 (by decide) ?_
    obtain rfl := Option.some.inj h
    exact hr_sub _ rfl (J9)
/-- HomeCompiler$Generator.own(III)I -/
def bd_X13_own (n : Nat) (k0 : Nat) (rec : Nat → List Int32 → hc_St → Option (Int32 × hc_St)) (x1 : Int32) (x2 : Int32) (x3 : Int32) (σ : hc_St) : Option (Int32 × hc_St) := Option.bind (fm_X6_next x2 σ) fun r1 => if 2 ≤ x1 then (Option.bind (fm_X14_isNumber n k0 x2 σ) fun r7 => Option.bind (α := Int32) (if r7.1 = 0 then (some (0)) else (Option.bind (fm_X14_value  r7.2) fun r17 => some (r17))) fun r13 => if x1 = 2 then (Option.bind (fm_X13_dest x3 r7.2) fun r35 => Option.bind (fm_X12_control 2 r35 0 r13 r7.2) fun r39 => Option.bind (fm_X13_keep x3 r39) fun r43 => some (r43.1, r43.2)) else (Option.bind (rec 0 [r1, x3] r7.2) fun r23 => Option.bind (fm_X13_use r23.1 5 r23.2) fun r27 => Option.bind (fm_X12_control 1 0 r27.1 r13 r27.2) fun r31 => some (0, r31))) else (Option.bind (rec 0 [x2, x3] σ) fun r47 => if x1 = 0 then (Option.bind (fm_X13_dest x3 r47.2) fun r90 => Option.bind (fm_X13_use r47.1 5 r47.2) fun r94 => Option.bind (fm_X12_load 2 r90 r94.1 0 r94.2) fun r98 => Option.bind (fm_X13_keep x3 r98) fun r102 => some (r102.1, r102.2)) else (Option.bind (fm_X13_isHome r47.1 x3 r47.2) fun r53 => Option.bind (α := hc_St × Int32) (if r53 = 0 then (some (r47.2, r47.1)) else (Option.bind (fm_X14_changes n k0 r1 r47.2) fun r63 => if r63.1 = 0 then (some (r63.2, r47.1)) else (Option.bind (fm_X13_copy r47.1 x3 r63.2) fun r69 => some (r69.2, r69.1)))) fun r59 => Option.bind (rec 0 [r1, ((x3 + 1))] r59.1) fun r74 => Option.bind (fm_X13_use r59.2 5 r74.2) fun r78 => Option.bind (fm_X13_use r74.1 6 r78.2) fun r82 => Option.bind (fm_X12_store 2 r78.1 r82.1 0 r82.2) fun r86 => some (0, r86)))
set_option maxRecDepth 20000 in
set_option maxHeartbeats 4000000 in
theorem okbX13_own (l : Launch) (E : hc_E) (A : Nat → Prop) (d : Nat) {kk : Nat} (n : Nat) (k0 : Nat) (rec : Nat → List Int32 → hc_St → Option (Int32 × hc_St)) (hD : kk + 1 * k0 + 13 ≤ d) (IH : ∀ (w : Nat) (a : List Int32) (σ : hc_St) (r : (Int32 × hc_St)), rec w a σ = some r → ∀ am, okg_X13_value l E A (d - 1) am w a σ r) {x1 : Int32} {x2 : Int32} {x3 : Int32} {σ : hc_St} {r : (Int32 × hc_St)} (h : bd_X13_own n k0 rec x1 x2 x3 σ = some r) (am : Nat → Nat → Nat) : hc_M l hc_V0 yX13_own (ws_ yX13_own cX13_own 8 (some .int)) d E A [.ref (E.2.1 14), .int x1, .int x2, .int x3] am [13] σ (.inl (some (.int r.1))) r.2 := by
  have hd1 : 1 ≤ d := by omega
  have hd8 : 9 ≤ d := by omega
  have hd12 : 12 ≤ d := by omega
  refine hc_enter2 (own := RX13) [(0, .ref (E.2.1 14)), (1, .int x1), (2, .int x2), (3, .int x3)] pl_X13 rfl hc_V0_st hc_G0_nd rfl (Nat.le_of_ble_eq_true rfl) (fun X hC hem => ?_)
  unfold bd_X13_own at h
  refine hr_aload_n hC dX13_own_0 rfl ?_
  refine hr_gO 6 hC F14_0 rfl dX13_own_1 q795 ?_
  refine hr_iload_n hC dX13_own_4 rfl ?_
  obtain ⟨r1, e2, h⟩ := hx_bind h
  refine hs_callV0 hC 6 [_] _ dX13_own_5 q2068 q1603 q1604 q320 q1605 np_X6 rfl OB_6 pd_X6_next (Nat.le_of_ble_eq_true rfl) hd1 (okX6_next l E A (d - 1)  (by omega)  e2 am) rfl ?_
  refine hr_istore hC dX13_own_8 (by decide) ?_
  refine hr_iload_n hC dX13_own_10 rfl ?_
  refine hr_iconst (v := 2) hC dX13_own_11 rfl ?_
  refine hr_icmp_ge (x := _) hC 130 dX13_own_12 (by decide) (fun c6 => ?_) (fun c6 => ?_)
  · rw [if_pos c6] at h
    refine hr_aload_n hC dX13_own_130 rfl ?_
    refine hr_gO 15 hC F14_6 rfl dX13_own_131 q801 ?_
    refine hr_iload_n hC dX13_own_134 rfl ?_
    obtain ⟨r7, e8, h⟩ := hx_bind h
    refine hs_callV0 hC 15 [_] _ dX13_own_135 q2105 q2106 q2107 q328 q2108 np_X14 rfl OB_15 pd_X14_isNumber (Nat.le_of_ble_eq_true rfl) hd1 (okX14_isNumber l E A (d - 1) n k0 (by omega)  e8 am) rfl ?_
    obtain ⟨r13, e14, h⟩ := hx_bind h
    have J15 : hc_At hc_V0 E 8 X 152 [(0, .ref (E.2.1 14)), (1, .int x1), (3, .int x3), (4, .int r1)] [.int r13] r7.2 am [] := by
      refine hr_istore hC dX13_own_152 (by decide) ?_
      refine hr_iload_n hC dX13_own_154 rfl ?_
      refine hr_iconst (v := 2) hC dX13_own_155 rfl ?_
      refine hr_icmp_ne (x := _) hC 181 dX13_own_156 (by decide) (fun c22 => ?_) (fun c22 => ?_)
      · rw [if_neg c22] at h
        refine hr_aload_n hC dX13_own_181 rfl ?_
        refine hr_gO 13 hC F14_5 rfl dX13_own_182 q800 ?_
        refine hr_iconst (v := 1) hC dX13_own_185 rfl ?_
        refine hr_iconst (v := 0) hC dX13_own_186 rfl ?_
        refine hr_aload_n hC dX13_own_187 rfl ?_
        refine hr_aload_n hC dX13_own_188 rfl ?_
        refine hr_iload hC dX13_own_189 rfl ?_
        refine hr_iload_n hC dX13_own_191 rfl ?_
        obtain ⟨r23, e24, h⟩ := hx_bind h
        refine hs_callV hC 14 [_, _] _ dX13_own_192 q2101 q2103 qs112 q327 q2104 np_X13 rfl OB_14 pd_X13_value (Nat.le_of_ble_eq_true rfl) hd1 (IH _ _ _ _ e24 am) (hc_rb rfl) rfl (fun am25 ha26 => ?_)
        refine hr_iconst (v := 5) hC dX13_own_195 rfl ?_
        obtain ⟨r27, e28, h⟩ := hx_bind h
        refine hs_callV hC 14 [_, _] _ dX13_own_196 q2167 q2169 qs121 q327 q2170 np_X13 rfl OB_14 pd_X13_use (Nat.le_of_ble_eq_true rfl) hd1 (okX13_use l E A (d - 1)  (by omega)  e28 am25) (hc_rb rfl) rfl (fun am29 ha30 => ?_)
        refine hr_iload hC dX13_own_199 rfl ?_
        obtain ⟨r31, e32, h⟩ := hx_bind h
        refine hs_callV hC 13 [_, _, _, _] _ dX13_own_201 q2207 q2208 q2209 q326 q2210 np_X12 rfl OB_13 pd_X12_control (Nat.le_of_ble_eq_true rfl) hd1 (okX12_control l E A (d - 1)  (by omega)  e32 am29) (hc_rb rfl) rfl (fun am33 ha34 => ?_)
        refine hr_iconst (v := 0) hC dX13_own_204 rfl ?_
        obtain rfl := Option.some.inj h
        exact hr_iret hC dX13_own_205
      · rw [if_pos c22] at h
        refine hr_aload_n hC dX13_own_159 rfl ?_
        refine hr_gO 13 hC F14_5 rfl dX13_own_160 q800 ?_
        refine hr_iconst (v := 2) hC dX13_own_163 rfl ?_
        refine hr_aload_n hC dX13_own_164 rfl ?_
        refine hr_iload_n hC dX13_own_165 rfl ?_
        obtain ⟨r35, e36, h⟩ := hx_bind h
        refine hs_callV0 hC 14 [_] _ dX13_own_166 q2135 q2137 qs115 q327 q2138 np_X13 rfl OB_14 pd_X13_dest (Nat.le_of_ble_eq_true rfl) hd1 (okX13_dest l E A (d - 1)  (by omega)  e36 am) rfl ?_
        refine hr_iconst (v := 0) hC dX13_own_169 rfl ?_
        refine hr_iload hC dX13_own_170 rfl ?_
        obtain ⟨r39, e40, h⟩ := hx_bind h
        refine hs_callV hC 13 [_, _, _, _] _ dX13_own_172 q2207 q2208 q2209 q326 q2210 np_X12 rfl OB_13 pd_X12_control (Nat.le_of_ble_eq_true rfl) hd1 (okX12_control l E A (d - 1)  (by omega)  e40 am) (hc_rb rfl) rfl (fun am41 ha42 => ?_)
        refine hr_aload_n hC dX13_own_175 rfl ?_
        refine hr_iload_n hC dX13_own_176 rfl ?_
        obtain ⟨r43, e44, h⟩ := hx_bind h
        refine hs_callV hC 14 [_] _ dX13_own_177 q2142 q2144 qs116 q327 q2145 np_X13 rfl OB_14 pd_X13_keep (Nat.le_of_ble_eq_true rfl) hd1 (okX13_keep l E A (d - 1)  (by omega)  e44 am41) (hc_rb rfl) rfl (fun am45 ha46 => ?_)
        obtain rfl := Option.some.inj h
        exact hr_iret hC dX13_own_180
    clear h
    have h := e14
    refine hr_if_eq (x := _) hC 151 dX13_own_138 (by decide) (fun c12 => ?_) (fun c12 => ?_)
    · rw [if_pos c12] at h
      refine hr_iconst (v := 0) hC dX13_own_151 rfl ?_
      obtain rfl := Option.some.inj h
      exact hr_sub _ rfl (J15)
    · rw [if_neg c12] at h
      refine hr_aload_n hC dX13_own_141 rfl ?_
      refine hr_gO 15 hC F14_6 rfl dX13_own_142 q801 ?_
      obtain ⟨r17, e18, h⟩ := hx_bind h
      refine hs_callV0 hC 15 [] _ dX13_own_145 q2131 q2132 q2133 q328 q2134 np_X14 rfl OB_15 pd_X14_value (Nat.le_of_ble_eq_true rfl) hd1 (okX14_value l E A (d - 1)  (by omega)  e18 am) rfl ?_
      refine hr_goto hC 152 dX13_own_148 (by decide) ?_
      obtain rfl := Option.some.inj h
      exact hr_sub _ rfl (J15)
  · rw [if_neg c6] at h
    refine hr_aload_n hC dX13_own_15 rfl ?_
    refine hr_iload_n hC dX13_own_16 rfl ?_
    refine hr_iload_n hC dX13_own_17 rfl ?_
    obtain ⟨r47, e48, h⟩ := hx_bind h
    refine hs_callV hC 14 [_, _] _ dX13_own_18 q2101 q2103 qs112 q327 q2104 np_X13 rfl OB_14 pd_X13_value (Nat.le_of_ble_eq_true rfl) hd1 (IH _ _ _ _ e48 am) (hc_rb rfl) rfl (fun am49 ha50 => ?_)
    refine hr_istore hC dX13_own_21 (by decide) ?_
    refine hr_iload_n hC dX13_own_23 rfl ?_
    refine hr_if_ne (x := _) hC 54 dX13_own_24 (by decide) (fun c52 => ?_) (fun c52 => ?_)
    · rw [if_neg c52] at h
      refine hr_iload hC dX13_own_54 rfl ?_
      refine hr_iload_n hC dX13_own_56 rfl ?_
      obtain ⟨r53, e54, h⟩ := hx_bind h
      refine hs_callS0 hC [_, _] _ dX13_own_57 q2195 q2196 q327 q2197 np_X13 rfl pd_X13_isHome (Nat.le_of_ble_eq_true rfl) hd1 (okX13_isHome l E A (d - 1)  (by omega)  e54 am49) rfl ?_
      obtain ⟨r59, e60, h⟩ := hx_bind h
      have J61 : ∀ am73, hc_At hc_V0 E 8 X 87 [(0, .ref (E.2.1 14)), (3, .int x3), (4, .int r1)] [.int r59.2] r59.1 am73 [] := by
        intro am73
        refine hr_istore hC dX13_own_87 (by decide) ?_
        refine hr_aload_n hC dX13_own_89 rfl ?_
        refine hr_iload hC dX13_own_90 rfl ?_
        refine hr_iload_n hC dX13_own_92 rfl ?_
        refine hr_iconst (v := 1) hC dX13_own_93 rfl ?_
        refine hr_iadd hC dX13_own_94 ?_
        obtain ⟨r74, e75, h⟩ := hx_bind h
        refine hs_callV hC 14 [_, _] _ dX13_own_95 q2101 q2103 qs112 q327 q2104 np_X13 rfl OB_14 pd_X13_value (Nat.le_of_ble_eq_true rfl) hd1 (IH _ _ _ _ e75 am73) (hc_rb rfl) rfl (fun am76 ha77 => ?_)
        refine hr_istore hC dX13_own_98 (by decide) ?_
        refine hr_aload_n hC dX13_own_100 rfl ?_
        refine hr_iload hC dX13_own_101 rfl ?_
        refine hr_iconst (v := 5) hC dX13_own_103 rfl ?_
        obtain ⟨r78, e79, h⟩ := hx_bind h
        refine hs_callV hC 14 [_, _] _ dX13_own_104 q2167 q2169 qs121 q327 q2170 np_X13 rfl OB_14 pd_X13_use (Nat.le_of_ble_eq_true rfl) hd1 (okX13_use l E A (d - 1)  (by omega)  e79 am76) (hc_rb rfl) rfl (fun am80 ha81 => ?_)
        refine hr_istore hC dX13_own_107 (by decide) ?_
        refine hr_aload_n hC dX13_own_109 rfl ?_
        refine hr_gO 13 hC F14_5 rfl dX13_own_110 q800 ?_
        refine hr_iconst (v := 2) hC dX13_own_113 rfl ?_
        refine hr_iload hC dX13_own_114 rfl ?_
        refine hr_aload_n hC dX13_own_116 rfl ?_
        refine hr_iload hC dX13_own_117 rfl ?_
        refine hr_bipush (v := 6) hC dX13_own_119 rfl ?_
        obtain ⟨r82, e83, h⟩ := hx_bind h
        refine hs_callV hC 14 [_, _] _ dX13_own_121 q2167 q2169 qs121 q327 q2170 np_X13 rfl OB_14 pd_X13_use (Nat.le_of_ble_eq_true rfl) hd1 (okX13_use l E A (d - 1)  (by omega)  e83 am80) (hc_rb rfl) rfl (fun am84 ha85 => ?_)
        refine hr_iconst (v := 0) hC dX13_own_124 rfl ?_
        obtain ⟨r86, e87, h⟩ := hx_bind h
        refine hs_callV hC 13 [_, _, _, _] _ dX13_own_125 q1896 q1897 q1898 q326 q1899 np_X12 rfl OB_13 pd_X12_store (Nat.le_of_ble_eq_true rfl) hd1 (okX12_store l E A (d - 1)  (by omega)  e87 am84) (hc_rb rfl) rfl (fun am88 ha89 => ?_)
        refine hr_iconst (v := 0) hC dX13_own_128 rfl ?_
        obtain rfl := Option.some.inj h
        exact hr_iret hC dX13_own_129
      clear h
      have h := e60
      refine hr_if_eq (x := _) hC 85 dX13_own_60 (by decide) (fun c58 => ?_) (fun c58 => ?_)
      · rw [if_pos c58] at h
        refine hr_iload hC dX13_own_85 rfl ?_
        obtain rfl := Option.some.inj h
        exact hr_sub _ rfl (J61 am49)
      · rw [if_neg c58] at h
        refine hr_aload_n hC dX13_own_63 rfl ?_
        refine hr_gO 15 hC F14_6 rfl dX13_own_64 q801 ?_
        refine hr_iload hC dX13_own_67 rfl ?_
        obtain ⟨r63, e64, h⟩ := hx_bind h
        refine hs_callV0 hC 15 [_] _ dX13_own_69 q2198 q2199 q2200 q328 q2201 np_X14 rfl OB_15 pd_X14_changes (Nat.le_of_ble_eq_true rfl) hd1 (okX14_changes l E A (d - 1) n k0 (by omega)  e64 am49) rfl ?_
        refine hr_if_eq (x := _) hC 85 dX13_own_72 (by decide) (fun c68 => ?_) (fun c68 => ?_)
        · rw [if_pos c68] at h
          refine hr_iload hC dX13_own_85 rfl ?_
          obtain rfl := Option.some.inj h
          exact hr_sub _ rfl (J61 am49)
        · rw [if_neg c68] at h
          refine hr_aload_n hC dX13_own_75 rfl ?_
          refine hr_iload hC dX13_own_76 rfl ?_
          refine hr_iload_n hC dX13_own_78 rfl ?_
          obtain ⟨r69, e70, h⟩ := hx_bind h
          refine hs_callV hC 14 [_, _] _ dX13_own_79 q2203 q2205 qs127 q327 q2206 np_X13 rfl OB_14 pd_X13_copy (Nat.le_of_ble_eq_true rfl) hd1 (okX13_copy l E A (d - 1)  (by omega)  e70 am49) (hc_rb rfl) rfl (fun am71 ha72 => ?_)
          refine hr_goto hC 87 dX13_own_82 (by decide) ?_
          obtain rfl := Option.some.inj h
          exact hr_sub _ rfl (J61 am71)
    · rw [if_pos c52] at h
      refine hr_aload_n hC dX13_own_27 rfl ?_
      refine hr_gO 13 hC F14_5 rfl dX13_own_28 q800 ?_
      refine hr_iconst (v := 2) hC dX13_own_31 rfl ?_
      refine hr_aload_n hC dX13_own_32 rfl ?_
      refine hr_iload_n hC dX13_own_33 rfl ?_
      obtain ⟨r90, e91, h⟩ := hx_bind h
      refine hs_callV0 hC 14 [_] _ dX13_own_34 q2135 q2137 qs115 q327 q2138 np_X13 rfl OB_14 pd_X13_dest (Nat.le_of_ble_eq_true rfl) hd1 (okX13_dest l E A (d - 1)  (by omega)  e91 am49) rfl ?_
      refine hr_aload_n hC dX13_own_37 rfl ?_
      refine hr_iload hC dX13_own_38 rfl ?_
      refine hr_iconst (v := 5) hC dX13_own_40 rfl ?_
      obtain ⟨r94, e95, h⟩ := hx_bind h
      refine hs_callV hC 14 [_, _] _ dX13_own_41 q2167 q2169 qs121 q327 q2170 np_X13 rfl OB_14 pd_X13_use (Nat.le_of_ble_eq_true rfl) hd1 (okX13_use l E A (d - 1)  (by omega)  e95 am49) (hc_rb rfl) rfl (fun am96 ha97 => ?_)
      refine hr_iconst (v := 0) hC dX13_own_44 rfl ?_
      obtain ⟨r98, e99, h⟩ := hx_bind h
      refine hs_callV hC 13 [_, _, _, _] _ dX13_own_45 q2162 q2061 q2062 q326 q2063 np_X12 rfl OB_13 pd_X12_load (Nat.le_of_ble_eq_true rfl) hd1 (okX12_load l E A (d - 1)  (by omega)  e99 am96) (hc_rb rfl) rfl (fun am100 ha101 => ?_)
      refine hr_aload_n hC dX13_own_48 rfl ?_
      refine hr_iload_n hC dX13_own_49 rfl ?_
      obtain ⟨r102, e103, h⟩ := hx_bind h
      refine hs_callV hC 14 [_] _ dX13_own_50 q2142 q2144 qs116 q327 q2145 np_X13 rfl OB_14 pd_X13_keep (Nat.le_of_ble_eq_true rfl) hd1 (okX13_keep l E A (d - 1)  (by omega)  e103 am100) (hc_rb rfl) rfl (fun am104 ha105 => ?_)
      obtain rfl := Option.some.inj h
      exact hr_iret hC dX13_own_53
/-- HomeCompiler$Generator.set(III)I -/
def bd_X13_set (n : Nat) (k0 : Nat) (rec : Nat → List Int32 → hc_St → Option (Int32 × hc_St)) (x1 : Int32) (x2 : Int32) (x3 : Int32) (σ : hc_St) : Option (Int32 × hc_St) := Option.bind (fm_X6_next x2 σ) fun r1 => Option.bind (fm_X6_op x1 σ) fun r5 => Option.bind (fm_X13_within r5 σ) fun r9 => Option.bind (fm_X6_extra x2 σ) fun r13 => Option.bind (fm_X6_kind x2 σ) fun r17 => if r17 = 38 then (Option.bind (rec 0 [r1, x3] σ) fun r87 => Option.bind (α := hc_St × Int32) (if r9 = 0 then (some (r87.2, r87.1)) else (Option.bind (fm_X13_use r87.1 6 r87.2) fun r97 => Option.bind (fm_X13_read r13 5 r97.2) fun r101 => Option.bind (fm_X13_dest x3 r101) fun r105 => Option.bind (fm_X13_reckon r9 r105 5 r97.1 r101) fun r109 => Option.bind (fm_X13_keep x3 r109) fun r113 => some (r113.2, r113.1))) fun r93 => Option.bind (fm_X13_assign r13 r93.2 x3 r93.1) fun r118 => some (r118.1, r118.2)) else (Option.bind (fm_X6_first x2 σ) fun r23 => Option.bind (rec 0 [r23, x3] σ) fun r27 => Option.bind (fm_X13_isHome r27.1 x3 r27.2) fun r31 => Option.bind (α := hc_St × Int32) (if r31 = 0 then (some (r27.2, r27.1)) else (Option.bind (fm_X14_changes n k0 r1 r27.2) fun r41 => if r41.1 = 0 then (some (r41.2, r27.1)) else (Option.bind (fm_X13_copy r27.1 x3 r41.2) fun r47 => some (r47.2, r47.1)))) fun r37 => Option.bind (rec 0 [r1, ((x3 + 1))] r37.1) fun r52 => Option.bind (fm_X13_reach r13 r37.2 r52.2) fun r56 => Option.bind (fm_X13_use r52.1 6 r56) fun r60 => Option.bind (α := hc_St × Int32) (if r9 = 0 then (some (r60.2, r60.1)) else (Option.bind (fm_X13_loadElement r13 5 r60.2) fun r70 => Option.bind (fm_X13_reckon r9 5 5 r60.1 r70) fun r74 => some (r74, 5))) fun r66 => Option.bind (fm_X13_storeElement r13 r66.2 r66.1) fun r79 => Option.bind (fm_X13_narrowed r13 r66.2 x3 r79) fun r83 => some (r83.1, r83.2))
set_option maxRecDepth 20000 in
set_option maxHeartbeats 4000000 in
theorem okbX13_set (l : Launch) (E : hc_E) (A : Nat → Prop) (d : Nat) {kk : Nat} (n : Nat) (k0 : Nat) (rec : Nat → List Int32 → hc_St → Option (Int32 × hc_St)) (hD : kk + 1 * k0 + 13 ≤ d) (IH : ∀ (w : Nat) (a : List Int32) (σ : hc_St) (r : (Int32 × hc_St)), rec w a σ = some r → ∀ am, okg_X13_value l E A (d - 1) am w a σ r) {x1 : Int32} {x2 : Int32} {x3 : Int32} {σ : hc_St} {r : (Int32 × hc_St)} (h : bd_X13_set n k0 rec x1 x2 x3 σ = some r) (am : Nat → Nat → Nat) : hc_M l hc_V0 yX13_set (ws_ yX13_set cX13_set 10 (some .int)) d E A [.ref (E.2.1 14), .int x1, .int x2, .int x3] am [13] σ (.inl (some (.int r.1))) r.2 := by
  have hd1 : 1 ≤ d := by omega
  have hd8 : 9 ≤ d := by omega
  have hd12 : 12 ≤ d := by omega
  refine hc_enter2 (own := RX13) [(0, .ref (E.2.1 14)), (1, .int x1), (2, .int x2), (3, .int x3)] pl_X13 rfl hc_V0_st hc_G0_nd rfl (Nat.le_of_ble_eq_true rfl) (fun X hC hem => ?_)
  unfold bd_X13_set at h
  refine hr_aload_n hC dX13_set_0 rfl ?_
  refine hr_gO 6 hC F14_0 rfl dX13_set_1 q795 ?_
  refine hr_iload_n hC dX13_set_4 rfl ?_
  obtain ⟨r1, e2, h⟩ := hx_bind h
  refine hs_callV0 hC 6 [_] _ dX13_set_5 q2068 q1603 q1604 q320 q1605 np_X6 rfl OB_6 pd_X6_next (Nat.le_of_ble_eq_true rfl) hd1 (okX6_next l E A (d - 1)  (by omega)  e2 am) rfl ?_
  refine hr_istore hC dX13_set_8 (by decide) ?_
  refine hr_aload_n hC dX13_set_10 rfl ?_
  refine hr_gO 6 hC F14_0 rfl dX13_set_11 q795 ?_
  refine hr_iload_n hC dX13_set_14 rfl ?_
  obtain ⟨r5, e6, h⟩ := hx_bind h
  refine hs_callV0 hC 6 [_] _ dX13_set_15 q1978 q1639 q1640 q320 q1641 np_X6 rfl OB_6 pd_X6_op (Nat.le_of_ble_eq_true rfl) hd1 (okX6_op l E A (d - 1)  (by omega)  e6 am) rfl ?_
  obtain ⟨r9, e10, h⟩ := hx_bind h
  refine hs_callS0 hC [_] _ dX13_set_18 q2231 q2232 q327 q2233 np_X13 rfl pd_X13_within (Nat.le_of_ble_eq_true rfl) hd1 (okX13_within l E A (d - 1)  (by omega)  e10 am) rfl ?_
  refine hr_istore hC dX13_set_21 (by decide) ?_
  refine hr_aload_n hC dX13_set_23 rfl ?_
  refine hr_gO 6 hC F14_0 rfl dX13_set_24 q795 ?_
  refine hr_iload_n hC dX13_set_27 rfl ?_
  obtain ⟨r13, e14, h⟩ := hx_bind h
  refine hs_callV0 hC 6 [_] _ dX13_set_28 q2043 q1687 q1688 q320 q1689 np_X6 rfl OB_6 pd_X6_extra (Nat.le_of_ble_eq_true rfl) hd1 (okX6_extra l E A (d - 1)  (by omega)  e14 am) rfl ?_
  refine hr_istore hC dX13_set_31 (by decide) ?_
  refine hr_aload_n hC dX13_set_33 rfl ?_
  refine hr_gO 6 hC F14_0 rfl dX13_set_34 q795 ?_
  refine hr_iload_n hC dX13_set_37 rfl ?_
  obtain ⟨r17, e18, h⟩ := hx_bind h
  refine hs_callV0 hC 6 [_] _ dX13_set_38 q2049 q1369 q1370 q320 q1371 np_X6 rfl OB_6 pd_X6_kind (Nat.le_of_ble_eq_true rfl) hd1 (okX6_kind l E A (d - 1)  (by omega)  e18 am) rfl ?_
  refine hr_bipush (v := 38) hC dX13_set_41 rfl ?_
  refine hr_icmp_ne (x := _) hC 108 dX13_set_43 (by decide) (fun c22 => ?_) (fun c22 => ?_)
  · rw [if_neg c22] at h
    refine hr_aload_n hC dX13_set_108 rfl ?_
    refine hr_aload_n hC dX13_set_109 rfl ?_
    refine hr_gO 6 hC F14_0 rfl dX13_set_110 q795 ?_
    refine hr_iload_n hC dX13_set_113 rfl ?_
    obtain ⟨r23, e24, h⟩ := hx_bind h
    refine hs_callV0 hC 6 [_] _ dX13_set_114 q2048 q1576 q1577 q320 q1578 np_X6 rfl OB_6 pd_X6_first (Nat.le_of_ble_eq_true rfl) hd1 (okX6_first l E A (d - 1)  (by omega)  e24 am) rfl ?_
    refine hr_iload_n hC dX13_set_117 rfl ?_
    obtain ⟨r27, e28, h⟩ := hx_bind h
    refine hs_callV hC 14 [_, _] _ dX13_set_118 q2101 q2103 qs112 q327 q2104 np_X13 rfl OB_14 pd_X13_value (Nat.le_of_ble_eq_true rfl) hd1 (IH _ _ _ _ e28 am) (hc_rb rfl) rfl (fun am29 ha30 => ?_)
    refine hr_istore hC dX13_set_121 (by decide) ?_
    refine hr_iload hC dX13_set_123 rfl ?_
    refine hr_iload_n hC dX13_set_125 rfl ?_
    obtain ⟨r31, e32, h⟩ := hx_bind h
    refine hs_callS0 hC [_, _] _ dX13_set_126 q2195 q2196 q327 q2197 np_X13 rfl pd_X13_isHome (Nat.le_of_ble_eq_true rfl) hd1 (okX13_isHome l E A (d - 1)  (by omega)  e32 am29) rfl ?_
    obtain ⟨r37, e38, h⟩ := hx_bind h
    have J39 : ∀ am51, hc_At hc_V0 E 10 X 156 [(0, .ref (E.2.1 14)), (3, .int x3), (4, .int r1), (5, .int r9), (6, .int r13)] [.int r37.2] r37.1 am51 [] := by
      intro am51
      refine hr_istore hC dX13_set_156 (by decide) ?_
      refine hr_aload_n hC dX13_set_158 rfl ?_
      refine hr_iload hC dX13_set_159 rfl ?_
      refine hr_iload_n hC dX13_set_161 rfl ?_
      refine hr_iconst (v := 1) hC dX13_set_162 rfl ?_
      refine hr_iadd hC dX13_set_163 ?_
      obtain ⟨r52, e53, h⟩ := hx_bind h
      refine hs_callV hC 14 [_, _] _ dX13_set_164 q2101 q2103 qs112 q327 q2104 np_X13 rfl OB_14 pd_X13_value (Nat.le_of_ble_eq_true rfl) hd1 (IH _ _ _ _ e53 am51) (hc_rb rfl) rfl (fun am54 ha55 => ?_)
      refine hr_istore hC dX13_set_167 (by decide) ?_
      refine hr_aload_n hC dX13_set_169 rfl ?_
      refine hr_iload hC dX13_set_170 rfl ?_
      refine hr_iload hC dX13_set_172 rfl ?_
      obtain ⟨r56, e57, h⟩ := hx_bind h
      refine hs_callV hC 14 [_, _] _ dX13_set_174 q2163 q2165 qs120 q327 q2166 np_X13 rfl OB_14 pd_X13_reach (Nat.le_of_ble_eq_true rfl) hd1 (okX13_reach l E A (d - 1)  (by omega)  e57 am54) (hc_rb rfl) rfl (fun am58 ha59 => ?_)
      refine hr_aload_n hC dX13_set_177 rfl ?_
      refine hr_iload hC dX13_set_178 rfl ?_
      refine hr_bipush (v := 6) hC dX13_set_180 rfl ?_
      obtain ⟨r60, e61, h⟩ := hx_bind h
      refine hs_callV hC 14 [_, _] _ dX13_set_182 q2167 q2169 qs121 q327 q2170 np_X13 rfl OB_14 pd_X13_use (Nat.le_of_ble_eq_true rfl) hd1 (okX13_use l E A (d - 1)  (by omega)  e61 am58) (hc_rb rfl) rfl (fun am62 ha63 => ?_)
      refine hr_istore hC dX13_set_185 (by decide) ?_
      refine hr_iload hC dX13_set_187 rfl ?_
      obtain ⟨r66, e67, h⟩ := hx_bind h
      have J68 : ∀ am78, hc_At hc_V0 E 10 X 212 [(0, .ref (E.2.1 14)), (3, .int x3), (6, .int r13), (9, .int r66.2)] [] r66.1 am78 [] := by
        intro am78
        refine hr_aload_n hC dX13_set_212 rfl ?_
        refine hr_iload hC dX13_set_213 rfl ?_
        refine hr_iload hC dX13_set_215 rfl ?_
        obtain ⟨r79, e80, h⟩ := hx_bind h
        refine hs_callV hC 14 [_, _] _ dX13_set_217 q2246 q2248 qs136 q327 q2249 np_X13 rfl OB_14 pd_X13_storeElement (Nat.le_of_ble_eq_true rfl) hd1 (okX13_storeElement l E A (d - 1)  (by omega)  e80 am78) (hc_rb rfl) rfl (fun am81 ha82 => ?_)
        refine hr_aload_n hC dX13_set_220 rfl ?_
        refine hr_iload hC dX13_set_221 rfl ?_
        refine hr_iload hC dX13_set_223 rfl ?_
        refine hr_iload_n hC dX13_set_225 rfl ?_
        obtain ⟨r83, e84, h⟩ := hx_bind h
        refine hs_callV hC 14 [_, _, _] _ dX13_set_226 q2250 q2252 qs137 q327 q2253 np_X13 rfl OB_14 pd_X13_narrowed (Nat.le_of_ble_eq_true rfl) hd1 (okX13_narrowed l E A (d - 1)  (by omega)  e84 am81) (hc_rb rfl) rfl (fun am85 ha86 => ?_)
        obtain rfl := Option.some.inj h
        exact hr_iret hC dX13_set_229
      clear h
      have h := e67
      refine hr_if_eq (x := _) hC 212 dX13_set_189 (by decide) (fun c65 => ?_) (fun c65 => ?_)
      · rw [if_pos c65] at h
        obtain rfl := Option.some.inj h
        exact hr_sub _ rfl (J68 am62)
      · rw [if_neg c65] at h
        refine hr_aload_n hC dX13_set_192 rfl ?_
        refine hr_iload hC dX13_set_193 rfl ?_
        refine hr_iconst (v := 5) hC dX13_set_195 rfl ?_
        obtain ⟨r70, e71, h⟩ := hx_bind h
        refine hs_callV hC 14 [_, _] _ dX13_set_196 q2181 q2183 qs124 q327 q2184 np_X13 rfl OB_14 pd_X13_loadElement (Nat.le_of_ble_eq_true rfl) hd1 (okX13_loadElement l E A (d - 1)  (by omega)  e71 am62) (hc_rb rfl) rfl (fun am72 ha73 => ?_)
        refine hr_aload_n hC dX13_set_199 rfl ?_
        refine hr_iload hC dX13_set_200 rfl ?_
        refine hr_iconst (v := 5) hC dX13_set_202 rfl ?_
        refine hr_iconst (v := 5) hC dX13_set_203 rfl ?_
        refine hr_iload hC dX13_set_204 rfl ?_
        obtain ⟨r74, e75, h⟩ := hx_bind h
        refine hs_callV hC 14 [_, _, _, _] _ dX13_set_206 q2234 q2236 qs133 q327 q2237 np_X13 rfl OB_14 pd_X13_reckon (Nat.le_of_ble_eq_true rfl) hd1 (okX13_reckon l E A (d - 1)  (by omega)  e75 am72) (hc_rb rfl) rfl (fun am76 ha77 => ?_)
        refine hr_iconst (v := 5) hC dX13_set_209 rfl ?_
        refine hr_istore hC dX13_set_210 (by decide) ?_
        obtain rfl := Option.some.inj h
        exact hr_sub _ rfl (J68 am76)
    clear h
    have h := e38
    refine hr_if_eq (x := _) hC 154 dX13_set_129 (by decide) (fun c36 => ?_) (fun c36 => ?_)
    · rw [if_pos c36] at h
      refine hr_iload hC dX13_set_154 rfl ?_
      obtain rfl := Option.some.inj h
      exact hr_sub _ rfl (J39 am29)
    · rw [if_neg c36] at h
      refine hr_aload_n hC dX13_set_132 rfl ?_
      refine hr_gO 15 hC F14_6 rfl dX13_set_133 q801 ?_
      refine hr_iload hC dX13_set_136 rfl ?_
      obtain ⟨r41, e42, h⟩ := hx_bind h
      refine hs_callV0 hC 15 [_] _ dX13_set_138 q2198 q2199 q2200 q328 q2201 np_X14 rfl OB_15 pd_X14_changes (Nat.le_of_ble_eq_true rfl) hd1 (okX14_changes l E A (d - 1) n k0 (by omega)  e42 am29) rfl ?_
      refine hr_if_eq (x := _) hC 154 dX13_set_141 (by decide) (fun c46 => ?_) (fun c46 => ?_)
      · rw [if_pos c46] at h
        refine hr_iload hC dX13_set_154 rfl ?_
        obtain rfl := Option.some.inj h
        exact hr_sub _ rfl (J39 am29)
      · rw [if_neg c46] at h
        refine hr_aload_n hC dX13_set_144 rfl ?_
        refine hr_iload hC dX13_set_145 rfl ?_
        refine hr_iload_n hC dX13_set_147 rfl ?_
        obtain ⟨r47, e48, h⟩ := hx_bind h
        refine hs_callV hC 14 [_, _] _ dX13_set_148 q2203 q2205 qs127 q327 q2206 np_X13 rfl OB_14 pd_X13_copy (Nat.le_of_ble_eq_true rfl) hd1 (okX13_copy l E A (d - 1)  (by omega)  e48 am29) (hc_rb rfl) rfl (fun am49 ha50 => ?_)
        refine hr_goto hC 156 dX13_set_151 (by decide) ?_
        obtain rfl := Option.some.inj h
        exact hr_sub _ rfl (J39 am49)
  · rw [if_pos c22] at h
    refine hr_aload_n hC dX13_set_46 rfl ?_
    refine hr_iload hC dX13_set_47 rfl ?_
    refine hr_iload_n hC dX13_set_49 rfl ?_
    obtain ⟨r87, e88, h⟩ := hx_bind h
    refine hs_callV hC 14 [_, _] _ dX13_set_50 q2101 q2103 qs112 q327 q2104 np_X13 rfl OB_14 pd_X13_value (Nat.le_of_ble_eq_true rfl) hd1 (IH _ _ _ _ e88 am) (hc_rb rfl) rfl (fun am89 ha90 => ?_)
    refine hr_istore hC dX13_set_53 (by decide) ?_
    refine hr_iload hC dX13_set_55 rfl ?_
    obtain ⟨r93, e94, h⟩ := hx_bind h
    have J95 : ∀ am117, hc_At hc_V0 E 10 X 98 [(0, .ref (E.2.1 14)), (3, .int x3), (6, .int r13), (7, .int r93.2)] [] r93.1 am117 [] := by
      intro am117
      refine hr_aload_n hC dX13_set_98 rfl ?_
      refine hr_iload hC dX13_set_99 rfl ?_
      refine hr_iload hC dX13_set_101 rfl ?_
      refine hr_iload_n hC dX13_set_103 rfl ?_
      obtain ⟨r118, e119, h⟩ := hx_bind h
      refine hs_callV hC 14 [_, _, _] _ dX13_set_104 q2242 q2244 qs135 q327 q2245 np_X13 rfl OB_14 pd_X13_assign (Nat.le_of_ble_eq_true rfl) hd1 (okX13_assign l E A (d - 1)  (by omega)  e119 am117) (hc_rb rfl) rfl (fun am120 ha121 => ?_)
      obtain rfl := Option.some.inj h
      exact hr_iret hC dX13_set_107
    clear h
    have h := e94
    refine hr_if_eq (x := _) hC 98 dX13_set_57 (by decide) (fun c92 => ?_) (fun c92 => ?_)
    · rw [if_pos c92] at h
      obtain rfl := Option.some.inj h
      exact hr_sub _ rfl (J95 am89)
    · rw [if_neg c92] at h
      refine hr_aload_n hC dX13_set_60 rfl ?_
      refine hr_iload hC dX13_set_61 rfl ?_
      refine hr_bipush (v := 6) hC dX13_set_63 rfl ?_
      obtain ⟨r97, e98, h⟩ := hx_bind h
      refine hs_callV hC 14 [_, _] _ dX13_set_65 q2167 q2169 qs121 q327 q2170 np_X13 rfl OB_14 pd_X13_use (Nat.le_of_ble_eq_true rfl) hd1 (okX13_use l E A (d - 1)  (by omega)  e98 am89) (hc_rb rfl) rfl (fun am99 ha100 => ?_)
      refine hr_istore hC dX13_set_68 (by decide) ?_
      refine hr_aload_n hC dX13_set_70 rfl ?_
      refine hr_iload hC dX13_set_71 rfl ?_
      refine hr_iconst (v := 5) hC dX13_set_73 rfl ?_
      obtain ⟨r101, e102, h⟩ := hx_bind h
      refine hs_callV hC 14 [_, _] _ dX13_set_74 q2158 q2160 qs119 q327 q2161 np_X13 rfl OB_14 pd_X13_read (Nat.le_of_ble_eq_true rfl) hd1 (okX13_read l E A (d - 1)  (by omega)  e102 am99) (hc_rb rfl) rfl (fun am103 ha104 => ?_)
      refine hr_aload_n hC dX13_set_77 rfl ?_
      refine hr_iload hC dX13_set_78 rfl ?_
      refine hr_aload_n hC dX13_set_80 rfl ?_
      refine hr_iload_n hC dX13_set_81 rfl ?_
      obtain ⟨r105, e106, h⟩ := hx_bind h
      refine hs_callV0 hC 14 [_] _ dX13_set_82 q2135 q2137 qs115 q327 q2138 np_X13 rfl OB_14 pd_X13_dest (Nat.le_of_ble_eq_true rfl) hd1 (okX13_dest l E A (d - 1)  (by omega)  e106 am103) rfl ?_
      refine hr_iconst (v := 5) hC dX13_set_85 rfl ?_
      refine hr_iload hC dX13_set_86 rfl ?_
      obtain ⟨r109, e110, h⟩ := hx_bind h
      refine hs_callV hC 14 [_, _, _, _] _ dX13_set_88 q2234 q2236 qs133 q327 q2237 np_X13 rfl OB_14 pd_X13_reckon (Nat.le_of_ble_eq_true rfl) hd1 (okX13_reckon l E A (d - 1)  (by omega)  e110 am103) (hc_rb rfl) rfl (fun am111 ha112 => ?_)
      refine hr_aload_n hC dX13_set_91 rfl ?_
      refine hr_iload_n hC dX13_set_92 rfl ?_
      obtain ⟨r113, e114, h⟩ := hx_bind h
      refine hs_callV hC 14 [_] _ dX13_set_93 q2142 q2144 qs116 q327 q2145 np_X13 rfl OB_14 pd_X13_keep (Nat.le_of_ble_eq_true rfl) hd1 (okX13_keep l E A (d - 1)  (by omega)  e114 am111) (hc_rb rfl) rfl (fun am115 ha116 => ?_)
      refine hr_istore hC dX13_set_96 (by decide) ?_
      obtain rfl := Option.some.inj h
      exact hr_sub _ rfl (J95 am115)
/-- HomeCompiler$Generator.count(III)I -/
def bd_X13_count (n : Nat) (k0 : Nat) (rec : Nat → List Int32 → hc_St → Option (Int32 × hc_St)) (x1 : Int32) (x2 : Int32) (x3 : Int32) (σ : hc_St) : Option (Int32 × hc_St) := Option.bind (fm_X6_op x1 σ) fun r1 => hl (α := Int32) ((if r1 = 136 then 1 else (-1))) fun v7 => Option.bind (fm_X6_kind x1 σ) fun r8 => hl (α := Int32) ((if r8 = 36 then 1 else 0)) fun v14 => Option.bind (fm_X6_extra x2 σ) fun r15 => Option.bind (fm_X6_kind x2 σ) fun r19 => if r19 = 38 then (if v14 = 0 then (Option.bind (fm_X13_read r15 5 σ) fun r77 => Option.bind (fm_X13_dest x3 r77) fun r81 => Option.bind (fm_X12_number 0 r81 5 v7 r77) fun r85 => Option.bind (fm_X13_keep x3 r85) fun r89 => Option.bind (fm_X13_assign r15 r89.1 x3 r89.2) fun r93 => some (r93.1, r93.2)) else (Option.bind (fm_X13_dest x3 σ) fun r97 => Option.bind (fm_X13_read r15 r97 σ) fun r101 => Option.bind (fm_X13_keep x3 r101) fun r105 => Option.bind (fm_X13_use r105.1 5 r105.2) fun r109 => Option.bind (fm_X12_number 0 5 r109.1 v7 r109.2) fun r113 => Option.bind (fm_X13_assignFromT0 r15 r113) fun r117 => some (r105.1, r117))) else (Option.bind (fm_X6_first x2 σ) fun r25 => Option.bind (rec 0 [r25, x3] σ) fun r29 => Option.bind (fm_X13_reach r15 r29.1 r29.2) fun r33 => Option.bind (fm_X13_loadElement r15 5 r33) fun r37 => Option.bind (α := hc_St) (if v14 = 0 then (some (r37)) else (Option.bind (fm_X12_move 6 5 r37) fun r47 => some (r47))) fun r43 => Option.bind (fm_X12_number 0 5 5 v7 r43) fun r52 => Option.bind (fm_X13_storeElement r15 5 r52) fun r56 => Option.bind (α := hc_St × Int32) (if v14 = 0 then (Option.bind (fm_X13_narrowed r15 5 x3 r56) fun r66 => some (r66.2, r66.1)) else (Option.bind (fm_X13_narrowed r15 6 x3 r56) fun r70 => some (r70.2, r70.1))) fun r62 => some (r62.2, r62.1))
set_option maxRecDepth 20000 in
set_option maxHeartbeats 4000000 in
theorem okbX13_count (l : Launch) (E : hc_E) (A : Nat → Prop) (d : Nat) {kk : Nat} (n : Nat) (k0 : Nat) (rec : Nat → List Int32 → hc_St → Option (Int32 × hc_St)) (hD : kk + 1 * k0 + 13 ≤ d) (IH : ∀ (w : Nat) (a : List Int32) (σ : hc_St) (r : (Int32 × hc_St)), rec w a σ = some r → ∀ am, okg_X13_value l E A (d - 1) am w a σ r) {x1 : Int32} {x2 : Int32} {x3 : Int32} {σ : hc_St} {r : (Int32 × hc_St)} (h : bd_X13_count n k0 rec x1 x2 x3 σ = some r) (am : Nat → Nat → Nat) : hc_M l hc_V0 yX13_count (ws_ yX13_count cX13_count 8 (some .int)) d E A [.ref (E.2.1 14), .int x1, .int x2, .int x3] am [13] σ (.inl (some (.int r.1))) r.2 := by
  have hd1 : 1 ≤ d := by omega
  have hd8 : 9 ≤ d := by omega
  have hd12 : 12 ≤ d := by omega
  refine hc_enter2 (own := RX13) [(0, .ref (E.2.1 14)), (1, .int x1), (2, .int x2), (3, .int x3)] pl_X13 rfl hc_V0_st hc_G0_nd rfl (Nat.le_of_ble_eq_true rfl) (fun X hC hem => ?_)
  unfold bd_X13_count at h
  refine hr_aload_n hC dX13_count_0 rfl ?_
  refine hr_gO 6 hC F14_0 rfl dX13_count_1 q795 ?_
  refine hr_iload_n hC dX13_count_4 rfl ?_
  obtain ⟨r1, e2, h⟩ := hx_bind h
  refine hs_callV0 hC 6 [_] _ dX13_count_5 q1978 q1639 q1640 q320 q1641 np_X6 rfl OB_6 pd_X6_op (Nat.le_of_ble_eq_true rfl) hd1 (okX6_op l E A (d - 1)  (by omega)  e2 am) rfl ?_
  refine hr_sipush (v := 136) hC dX13_count_8 rfl ?_
  obtain ⟨v7, hv7, h⟩ := hl_ok h
  have J124 : ∀ w125 : Int32, (if r1 = 136 then 1 else (-1)) = w125 → hc_At hc_V0 E 8 X 19 [(0, .ref (E.2.1 14)), (1, .int x1), (2, .int x2), (3, .int x3)] [.int w125] σ am [] := by
    intro w125 hw125
    obtain rfl := hv7.trans hw125
    refine hr_istore hC dX13_count_19 (by decide) ?_
    refine hr_aload_n hC dX13_count_21 rfl ?_
    refine hr_gO 6 hC F14_0 rfl dX13_count_22 q795 ?_
    refine hr_iload_n hC dX13_count_25 rfl ?_
    obtain ⟨r8, e9, h⟩ := hx_bind h
    refine hs_callV0 hC 6 [_] _ dX13_count_26 q2049 q1369 q1370 q320 q1371 np_X6 rfl OB_6 pd_X6_kind (Nat.le_of_ble_eq_true rfl) hd1 (okX6_kind l E A (d - 1)  (by omega)  e9 am) rfl ?_
    refine hr_bipush (v := 36) hC dX13_count_29 rfl ?_
    obtain ⟨v14, hv14, h⟩ := hl_ok h
    have J121 : ∀ w122 : Int32, (if r8 = 36 then 1 else 0) = w122 → hc_At hc_V0 E 8 X 39 [(0, .ref (E.2.1 14)), (2, .int x2), (3, .int x3), (4, .int v7)] [.int w122] σ am [] := by
      intro w122 hw122
      obtain rfl := hv14.trans hw122
      refine hr_istore hC dX13_count_39 (by decide) ?_
      refine hr_aload_n hC dX13_count_41 rfl ?_
      refine hr_gO 6 hC F14_0 rfl dX13_count_42 q795 ?_
      refine hr_iload_n hC dX13_count_45 rfl ?_
      obtain ⟨r15, e16, h⟩ := hx_bind h
      refine hs_callV0 hC 6 [_] _ dX13_count_46 q2043 q1687 q1688 q320 q1689 np_X6 rfl OB_6 pd_X6_extra (Nat.le_of_ble_eq_true rfl) hd1 (okX6_extra l E A (d - 1)  (by omega)  e16 am) rfl ?_
      refine hr_istore hC dX13_count_49 (by decide) ?_
      refine hr_aload_n hC dX13_count_51 rfl ?_
      refine hr_gO 6 hC F14_0 rfl dX13_count_52 q795 ?_
      refine hr_iload_n hC dX13_count_55 rfl ?_
      obtain ⟨r19, e20, h⟩ := hx_bind h
      refine hs_callV0 hC 6 [_] _ dX13_count_56 q2049 q1369 q1370 q320 q1371 np_X6 rfl OB_6 pd_X6_kind (Nat.le_of_ble_eq_true rfl) hd1 (okX6_kind l E A (d - 1)  (by omega)  e20 am) rfl ?_
      refine hr_bipush (v := 38) hC dX13_count_59 rfl ?_
      refine hr_icmp_ne (x := _) hC 150 dX13_count_61 (by decide) (fun c24 => ?_) (fun c24 => ?_)
      · rw [if_neg c24] at h
        refine hr_aload_n hC dX13_count_150 rfl ?_
        refine hr_iload hC dX13_count_151 rfl ?_
        refine hr_aload_n hC dX13_count_153 rfl ?_
        refine hr_aload_n hC dX13_count_154 rfl ?_
        refine hr_gO 6 hC F14_0 rfl dX13_count_155 q795 ?_
        refine hr_iload_n hC dX13_count_158 rfl ?_
        obtain ⟨r25, e26, h⟩ := hx_bind h
        refine hs_callV0 hC 6 [_] _ dX13_count_159 q2048 q1576 q1577 q320 q1578 np_X6 rfl OB_6 pd_X6_first (Nat.le_of_ble_eq_true rfl) hd1 (okX6_first l E A (d - 1)  (by omega)  e26 am) rfl ?_
        refine hr_iload_n hC dX13_count_162 rfl ?_
        obtain ⟨r29, e30, h⟩ := hx_bind h
        refine hs_callV hC 14 [_, _] _ dX13_count_163 q2101 q2103 qs112 q327 q2104 np_X13 rfl OB_14 pd_X13_value (Nat.le_of_ble_eq_true rfl) hd1 (IH _ _ _ _ e30 am) (hc_rb rfl) rfl (fun am31 ha32 => ?_)
        obtain ⟨r33, e34, h⟩ := hx_bind h
        refine hs_callV hC 14 [_, _] _ dX13_count_166 q2163 q2165 qs120 q327 q2166 np_X13 rfl OB_14 pd_X13_reach (Nat.le_of_ble_eq_true rfl) hd1 (okX13_reach l E A (d - 1)  (by omega)  e34 am31) (hc_rb rfl) rfl (fun am35 ha36 => ?_)
        refine hr_aload_n hC dX13_count_169 rfl ?_
        refine hr_iload hC dX13_count_170 rfl ?_
        refine hr_iconst (v := 5) hC dX13_count_172 rfl ?_
        obtain ⟨r37, e38, h⟩ := hx_bind h
        refine hs_callV hC 14 [_, _] _ dX13_count_173 q2181 q2183 qs124 q327 q2184 np_X13 rfl OB_14 pd_X13_loadElement (Nat.le_of_ble_eq_true rfl) hd1 (okX13_loadElement l E A (d - 1)  (by omega)  e38 am35) (hc_rb rfl) rfl (fun am39 ha40 => ?_)
        refine hr_iload hC dX13_count_176 rfl ?_
        obtain ⟨r43, e44, h⟩ := hx_bind h
        have J45 : ∀ am51, hc_At hc_V0 E 8 X 191 [(0, .ref (E.2.1 14)), (3, .int x3), (4, .int v7), (5, .int v14), (6, .int r15)] [] r43 am51 [] := by
          intro am51
          refine hr_aload_n hC dX13_count_191 rfl ?_
          refine hr_gO 13 hC F14_5 rfl dX13_count_192 q800 ?_
          refine hr_iconst (v := 0) hC dX13_count_195 rfl ?_
          refine hr_iconst (v := 5) hC dX13_count_196 rfl ?_
          refine hr_iconst (v := 5) hC dX13_count_197 rfl ?_
          refine hr_iload hC dX13_count_198 rfl ?_
          obtain ⟨r52, e53, h⟩ := hx_bind h
          refine hs_callV hC 13 [_, _, _, _] _ dX13_count_200 q1992 q1913 q1914 q326 q1915 np_X12 rfl OB_13 pd_X12_number (Nat.le_of_ble_eq_true rfl) hd1 (okX12_number l E A (d - 1)  (by omega)  e53 am51) (hc_rb rfl) rfl (fun am54 ha55 => ?_)
          refine hr_aload_n hC dX13_count_203 rfl ?_
          refine hr_iload hC dX13_count_204 rfl ?_
          refine hr_iconst (v := 5) hC dX13_count_206 rfl ?_
          obtain ⟨r56, e57, h⟩ := hx_bind h
          refine hs_callV hC 14 [_, _] _ dX13_count_207 q2246 q2248 qs136 q327 q2249 np_X13 rfl OB_14 pd_X13_storeElement (Nat.le_of_ble_eq_true rfl) hd1 (okX13_storeElement l E A (d - 1)  (by omega)  e57 am54) (hc_rb rfl) rfl (fun am58 ha59 => ?_)
          refine hr_iload hC dX13_count_210 rfl ?_
          obtain ⟨r62, e63, h⟩ := hx_bind h
          have J64 : ∀ am74, hc_At hc_V0 E 8 X 235 [] [.int r62.2] r62.1 am74 [] := by
            intro am74
            obtain rfl := Option.some.inj h
            exact hr_iret hC dX13_count_235
          clear h
          have h := e63
          refine hr_if_eq (x := _) hC 227 dX13_count_212 (by decide) (fun c61 => ?_) (fun c61 => ?_)
          · rw [if_pos c61] at h
            refine hr_aload_n hC dX13_count_227 rfl ?_
            refine hr_iload hC dX13_count_228 rfl ?_
            refine hr_iconst (v := 5) hC dX13_count_230 rfl ?_
            refine hr_iload_n hC dX13_count_231 rfl ?_
            obtain ⟨r66, e67, h⟩ := hx_bind h
            refine hs_callV hC 14 [_, _, _] _ dX13_count_232 q2250 q2252 qs137 q327 q2253 np_X13 rfl OB_14 pd_X13_narrowed (Nat.le_of_ble_eq_true rfl) hd1 (okX13_narrowed l E A (d - 1)  (by omega)  e67 am58) (hc_rb rfl) rfl (fun am68 ha69 => ?_)
            obtain rfl := Option.some.inj h
            exact hr_sub _ rfl (J64 am68)
          · rw [if_neg c61] at h
            refine hr_aload_n hC dX13_count_215 rfl ?_
            refine hr_iload hC dX13_count_216 rfl ?_
            refine hr_bipush (v := 6) hC dX13_count_218 rfl ?_
            refine hr_iload_n hC dX13_count_220 rfl ?_
            obtain ⟨r70, e71, h⟩ := hx_bind h
            refine hs_callV hC 14 [_, _, _] _ dX13_count_221 q2250 q2252 qs137 q327 q2253 np_X13 rfl OB_14 pd_X13_narrowed (Nat.le_of_ble_eq_true rfl) hd1 (okX13_narrowed l E A (d - 1)  (by omega)  e71 am58) (hc_rb rfl) rfl (fun am72 ha73 => ?_)
            refine hr_goto hC 235 dX13_count_224 (by decide) ?_
            obtain rfl := Option.some.inj h
            exact hr_sub _ rfl (J64 am72)
        clear h
        have h := e44
        refine hr_if_eq (x := _) hC 191 dX13_count_178 (by decide) (fun c42 => ?_) (fun c42 => ?_)
        · rw [if_pos c42] at h
          obtain rfl := Option.some.inj h
          exact hr_sub _ rfl (J45 am39)
        · rw [if_neg c42] at h
          refine hr_aload_n hC dX13_count_181 rfl ?_
          refine hr_gO 13 hC F14_5 rfl dX13_count_182 q800 ?_
          refine hr_bipush (v := 6) hC dX13_count_185 rfl ?_
          refine hr_iconst (v := 5) hC dX13_count_187 rfl ?_
          obtain ⟨r47, e48, h⟩ := hx_bind h
          refine hs_callV hC 13 [_, _] _ dX13_count_188 q2007 q2008 q2009 q326 q2010 np_X12 rfl OB_13 pd_X12_move (Nat.le_of_ble_eq_true rfl) hd1 (okX12_move l E A (d - 1)  (by omega)  e48 am39) (hc_rb rfl) rfl (fun am49 ha50 => ?_)
          obtain rfl := Option.some.inj h
          exact hr_sub _ rfl (J45 am49)
      · rw [if_pos c24] at h
        refine hr_iload hC dX13_count_64 rfl ?_
        refine hr_if_eq (x := _) hC 114 dX13_count_66 (by decide) (fun c76 => ?_) (fun c76 => ?_)
        · rw [if_pos c76] at h
          refine hr_aload_n hC dX13_count_114 rfl ?_
          refine hr_iload hC dX13_count_115 rfl ?_
          refine hr_iconst (v := 5) hC dX13_count_117 rfl ?_
          obtain ⟨r77, e78, h⟩ := hx_bind h
          refine hs_callV hC 14 [_, _] _ dX13_count_118 q2158 q2160 qs119 q327 q2161 np_X13 rfl OB_14 pd_X13_read (Nat.le_of_ble_eq_true rfl) hd1 (okX13_read l E A (d - 1)  (by omega)  e78 am) (hc_rb rfl) rfl (fun am79 ha80 => ?_)
          refine hr_aload_n hC dX13_count_121 rfl ?_
          refine hr_gO 13 hC F14_5 rfl dX13_count_122 q800 ?_
          refine hr_iconst (v := 0) hC dX13_count_125 rfl ?_
          refine hr_aload_n hC dX13_count_126 rfl ?_
          refine hr_iload_n hC dX13_count_127 rfl ?_
          obtain ⟨r81, e82, h⟩ := hx_bind h
          refine hs_callV0 hC 14 [_] _ dX13_count_128 q2135 q2137 qs115 q327 q2138 np_X13 rfl OB_14 pd_X13_dest (Nat.le_of_ble_eq_true rfl) hd1 (okX13_dest l E A (d - 1)  (by omega)  e82 am79) rfl ?_
          refine hr_iconst (v := 5) hC dX13_count_131 rfl ?_
          refine hr_iload hC dX13_count_132 rfl ?_
          obtain ⟨r85, e86, h⟩ := hx_bind h
          refine hs_callV hC 13 [_, _, _, _] _ dX13_count_134 q1992 q1913 q1914 q326 q1915 np_X12 rfl OB_13 pd_X12_number (Nat.le_of_ble_eq_true rfl) hd1 (okX12_number l E A (d - 1)  (by omega)  e86 am79) (hc_rb rfl) rfl (fun am87 ha88 => ?_)
          refine hr_aload_n hC dX13_count_137 rfl ?_
          refine hr_iload hC dX13_count_138 rfl ?_
          refine hr_aload_n hC dX13_count_140 rfl ?_
          refine hr_iload_n hC dX13_count_141 rfl ?_
          obtain ⟨r89, e90, h⟩ := hx_bind h
          refine hs_callV hC 14 [_] _ dX13_count_142 q2142 q2144 qs116 q327 q2145 np_X13 rfl OB_14 pd_X13_keep (Nat.le_of_ble_eq_true rfl) hd1 (okX13_keep l E A (d - 1)  (by omega)  e90 am87) (hc_rb rfl) rfl (fun am91 ha92 => ?_)
          refine hr_iload_n hC dX13_count_145 rfl ?_
          obtain ⟨r93, e94, h⟩ := hx_bind h
          refine hs_callV hC 14 [_, _, _] _ dX13_count_146 q2242 q2244 qs135 q327 q2245 np_X13 rfl OB_14 pd_X13_assign (Nat.le_of_ble_eq_true rfl) hd1 (okX13_assign l E A (d - 1)  (by omega)  e94 am91) (hc_rb rfl) rfl (fun am95 ha96 => ?_)
          obtain rfl := Option.some.inj h
          exact hr_iret hC dX13_count_149
        · rw [if_neg c76] at h
          refine hr_aload_n hC dX13_count_69 rfl ?_
          refine hr_iload hC dX13_count_70 rfl ?_
          refine hr_aload_n hC dX13_count_72 rfl ?_
          refine hr_iload_n hC dX13_count_73 rfl ?_
          obtain ⟨r97, e98, h⟩ := hx_bind h
          refine hs_callV0 hC 14 [_] _ dX13_count_74 q2135 q2137 qs115 q327 q2138 np_X13 rfl OB_14 pd_X13_dest (Nat.le_of_ble_eq_true rfl) hd1 (okX13_dest l E A (d - 1)  (by omega)  e98 am) rfl ?_
          obtain ⟨r101, e102, h⟩ := hx_bind h
          refine hs_callV hC 14 [_, _] _ dX13_count_77 q2158 q2160 qs119 q327 q2161 np_X13 rfl OB_14 pd_X13_read (Nat.le_of_ble_eq_true rfl) hd1 (okX13_read l E A (d - 1)  (by omega)  e102 am) (hc_rb rfl) rfl (fun am103 ha104 => ?_)
          refine hr_aload_n hC dX13_count_80 rfl ?_
          refine hr_iload_n hC dX13_count_81 rfl ?_
          obtain ⟨r105, e106, h⟩ := hx_bind h
          refine hs_callV hC 14 [_] _ dX13_count_82 q2142 q2144 qs116 q327 q2145 np_X13 rfl OB_14 pd_X13_keep (Nat.le_of_ble_eq_true rfl) hd1 (okX13_keep l E A (d - 1)  (by omega)  e106 am103) (hc_rb rfl) rfl (fun am107 ha108 => ?_)
          refine hr_istore hC dX13_count_85 (by decide) ?_
          refine hr_aload_n hC dX13_count_87 rfl ?_
          refine hr_gO 13 hC F14_5 rfl dX13_count_88 q800 ?_
          refine hr_iconst (v := 0) hC dX13_count_91 rfl ?_
          refine hr_iconst (v := 5) hC dX13_count_92 rfl ?_
          refine hr_aload_n hC dX13_count_93 rfl ?_
          refine hr_iload hC dX13_count_94 rfl ?_
          refine hr_iconst (v := 5) hC dX13_count_96 rfl ?_
          obtain ⟨r109, e110, h⟩ := hx_bind h
          refine hs_callV hC 14 [_, _] _ dX13_count_97 q2167 q2169 qs121 q327 q2170 np_X13 rfl OB_14 pd_X13_use (Nat.le_of_ble_eq_true rfl) hd1 (okX13_use l E A (d - 1)  (by omega)  e110 am107) (hc_rb rfl) rfl (fun am111 ha112 => ?_)
          refine hr_iload hC dX13_count_100 rfl ?_
          obtain ⟨r113, e114, h⟩ := hx_bind h
          refine hs_callV hC 13 [_, _, _, _] _ dX13_count_102 q1992 q1913 q1914 q326 q1915 np_X12 rfl OB_13 pd_X12_number (Nat.le_of_ble_eq_true rfl) hd1 (okX12_number l E A (d - 1)  (by omega)  e114 am111) (hc_rb rfl) rfl (fun am115 ha116 => ?_)
          refine hr_aload_n hC dX13_count_105 rfl ?_
          refine hr_iload hC dX13_count_106 rfl ?_
          obtain ⟨r117, e118, h⟩ := hx_bind h
          refine hs_callV hC 14 [_] _ dX13_count_108 q2258 q2260 qs139 q327 q2261 np_X13 rfl OB_14 pd_X13_assignFromT0 (Nat.le_of_ble_eq_true rfl) hd1 (okX13_assignFromT0 l E A (d - 1)  (by omega)  e118 am115) (hc_rb rfl) rfl (fun am119 ha120 => ?_)
          refine hr_iload hC dX13_count_111 rfl ?_
          obtain rfl := Option.some.inj h
          exact hr_iret hC dX13_count_113
    refine hr_icmp_ne (x := _) hC 38 dX13_count_31 (by decide) (fun c123 => ?_) (fun c123 => ?_)
    · refine hr_iconst (v := 0) hC dX13_count_38 rfl ?_
      exact hr_sub _ rfl (J121 _ (by first | (rw [if_neg c123]; done) | (simp only [if_neg c123]; done) | rfl))
    · refine hr_iconst (v := 1) hC dX13_count_34 rfl ?_
      refine hr_goto hC 39 dX13_count_35 (by decide) ?_
      exact hr_sub _ rfl (J121 _ (by first | (rw [if_pos c123]; done) | (simp only [if_pos c123]; done) | rfl))
  refine hr_icmp_ne (x := _) hC 18 dX13_count_11 (by decide) (fun c126 => ?_) (fun c126 => ?_)
  · refine hr_iconst (v := (-1)) hC dX13_count_18 rfl ?_
    exact hr_sub _ rfl (J124 _ (by first | (rw [if_neg c126]; done) | (simp only [if_neg c126]; done) | rfl))
  · refine hr_iconst (v := 1) hC dX13_count_14 rfl ?_
    refine hr_goto hC 19 dX13_count_15 (by decide) ?_
    exact hr_sub _ rfl (J124 _ (by first | (rw [if_pos c126]; done) | (simp only [if_pos c126]; done) | rfl))
/-- HomeCompiler$Generator.unary(III)I -/
def bd_X13_unary (n : Nat) (k0 : Nat) (rec : Nat → List Int32 → hc_St → Option (Int32 × hc_St)) (x1 : Int32) (x2 : Int32) (x3 : Int32) (σ : hc_St) : Option (Int32 × hc_St) := if x1 = 43 then (Option.bind (rec 0 [x2, x3] σ) fun r40 => some (r40.1, r40.2)) else (Option.bind (rec 0 [x2, x3] σ) fun r3 => Option.bind (fm_X13_use r3.1 5 r3.2) fun r7 => Option.bind (fm_X13_dest x3 r7.2) fun r11 => Option.bind (α := hc_St) (if x1 = 45 then (Option.bind (fm_X12_both 0 32 r11 0 r7.1 r7.2) fun r31 => some (r31)) else (if x1 = 126 then (Option.bind (fm_X12_number 4 r11 r7.1 ((-1)) r7.2) fun r27 => some (r27)) else (Option.bind (fm_X12_number 3 r11 r7.1 1 r7.2) fun r23 => some (r23)))) fun r17 => Option.bind (fm_X13_keep x3 r17) fun r36 => some (r36.1, r36.2))
set_option maxRecDepth 20000 in
set_option maxHeartbeats 4000000 in
theorem okbX13_unary (l : Launch) (E : hc_E) (A : Nat → Prop) (d : Nat) {kk : Nat} (n : Nat) (k0 : Nat) (rec : Nat → List Int32 → hc_St → Option (Int32 × hc_St)) (hD : kk + 1 * k0 + 13 ≤ d) (IH : ∀ (w : Nat) (a : List Int32) (σ : hc_St) (r : (Int32 × hc_St)), rec w a σ = some r → ∀ am, okg_X13_value l E A (d - 1) am w a σ r) {x1 : Int32} {x2 : Int32} {x3 : Int32} {σ : hc_St} {r : (Int32 × hc_St)} (h : bd_X13_unary n k0 rec x1 x2 x3 σ = some r) (am : Nat → Nat → Nat) : hc_M l hc_V0 yX13_unary (ws_ yX13_unary cX13_unary 6 (some .int)) d E A [.ref (E.2.1 14), .int x1, .int x2, .int x3] am [13] σ (.inl (some (.int r.1))) r.2 := by
  have hd1 : 1 ≤ d := by omega
  have hd8 : 9 ≤ d := by omega
  have hd12 : 12 ≤ d := by omega
  refine hc_enter2 (own := RX13) [(0, .ref (E.2.1 14)), (1, .int x1), (2, .int x2), (3, .int x3)] pl_X13 rfl hc_V0_st hc_G0_nd rfl (Nat.le_of_ble_eq_true rfl) (fun X hC hem => ?_)
  unfold bd_X13_unary at h
  refine hr_iload_n hC dX13_unary_0 rfl ?_
  refine hr_bipush (v := 43) hC dX13_unary_1 rfl ?_
  refine hr_icmp_ne (x := _) hC 13 dX13_unary_3 (by decide) (fun c2 => ?_) (fun c2 => ?_)
  · rw [if_neg c2] at h
    refine hr_aload_n hC dX13_unary_13 rfl ?_
    refine hr_aload_n hC dX13_unary_14 rfl ?_
    refine hr_iload_n hC dX13_unary_15 rfl ?_
    refine hr_iload_n hC dX13_unary_16 rfl ?_
    obtain ⟨r3, e4, h⟩ := hx_bind h
    refine hs_callV hC 14 [_, _] _ dX13_unary_17 q2101 q2103 qs112 q327 q2104 np_X13 rfl OB_14 pd_X13_value (Nat.le_of_ble_eq_true rfl) hd1 (IH _ _ _ _ e4 am) (hc_rb rfl) rfl (fun am5 ha6 => ?_)
    refine hr_iconst (v := 5) hC dX13_unary_20 rfl ?_
    obtain ⟨r7, e8, h⟩ := hx_bind h
    refine hs_callV hC 14 [_, _] _ dX13_unary_21 q2167 q2169 qs121 q327 q2170 np_X13 rfl OB_14 pd_X13_use (Nat.le_of_ble_eq_true rfl) hd1 (okX13_use l E A (d - 1)  (by omega)  e8 am5) (hc_rb rfl) rfl (fun am9 ha10 => ?_)
    refine hr_istore hC dX13_unary_24 (by decide) ?_
    refine hr_aload_n hC dX13_unary_26 rfl ?_
    refine hr_iload_n hC dX13_unary_27 rfl ?_
    obtain ⟨r11, e12, h⟩ := hx_bind h
    refine hs_callV0 hC 14 [_] _ dX13_unary_28 q2135 q2137 qs115 q327 q2138 np_X13 rfl OB_14 pd_X13_dest (Nat.le_of_ble_eq_true rfl) hd1 (okX13_dest l E A (d - 1)  (by omega)  e12 am9) rfl ?_
    refine hr_istore hC dX13_unary_31 (by decide) ?_
    refine hr_iload_n hC dX13_unary_33 rfl ?_
    refine hr_bipush (v := 45) hC dX13_unary_34 rfl ?_
    obtain ⟨r17, e18, h⟩ := hx_bind h
    have J19 : ∀ am35, hc_At hc_V0 E 6 X 92 [(0, .ref (E.2.1 14)), (3, .int x3)] [] r17 am35 [] := by
      intro am35
      refine hr_aload_n hC dX13_unary_92 rfl ?_
      refine hr_iload_n hC dX13_unary_93 rfl ?_
      obtain ⟨r36, e37, h⟩ := hx_bind h
      refine hs_callV hC 14 [_] _ dX13_unary_94 q2142 q2144 qs116 q327 q2145 np_X13 rfl OB_14 pd_X13_keep (Nat.le_of_ble_eq_true rfl) hd1 (okX13_keep l E A (d - 1)  (by omega)  e37 am35) (hc_rb rfl) rfl (fun am38 ha39 => ?_)
      obtain rfl := Option.some.inj h
      exact hr_iret hC dX13_unary_97
    clear h
    have h := e18
    refine hr_icmp_ne (x := _) hC 57 dX13_unary_36 (by decide) (fun c16 => ?_) (fun c16 => ?_)
    · rw [if_neg c16] at h
      refine hr_iload_n hC dX13_unary_57 rfl ?_
      refine hr_bipush (v := 126) hC dX13_unary_58 rfl ?_
      refine hr_icmp_ne (x := _) hC 79 dX13_unary_60 (by decide) (fun c22 => ?_) (fun c22 => ?_)
      · rw [if_neg c22] at h
        refine hr_aload_n hC dX13_unary_79 rfl ?_
        refine hr_gO 13 hC F14_5 rfl dX13_unary_80 q800 ?_
        refine hr_iconst (v := 3) hC dX13_unary_83 rfl ?_
        refine hr_iload hC dX13_unary_84 rfl ?_
        refine hr_iload hC dX13_unary_86 rfl ?_
        refine hr_iconst (v := 1) hC dX13_unary_88 rfl ?_
        obtain ⟨r23, e24, h⟩ := hx_bind h
        refine hs_callV hC 13 [_, _, _, _] _ dX13_unary_89 q1992 q1913 q1914 q326 q1915 np_X12 rfl OB_13 pd_X12_number (Nat.le_of_ble_eq_true rfl) hd1 (okX12_number l E A (d - 1)  (by omega)  e24 am9) (hc_rb rfl) rfl (fun am25 ha26 => ?_)
        obtain rfl := Option.some.inj h
        exact hr_sub _ rfl (J19 am25)
      · rw [if_pos c22] at h
        refine hr_aload_n hC dX13_unary_63 rfl ?_
        refine hr_gO 13 hC F14_5 rfl dX13_unary_64 q800 ?_
        refine hr_iconst (v := 4) hC dX13_unary_67 rfl ?_
        refine hr_iload hC dX13_unary_68 rfl ?_
        refine hr_iload hC dX13_unary_70 rfl ?_
        refine hr_iconst (v := (-1)) hC dX13_unary_72 rfl ?_
        obtain ⟨r27, e28, h⟩ := hx_bind h
        refine hs_callV hC 13 [_, _, _, _] _ dX13_unary_73 q1992 q1913 q1914 q326 q1915 np_X12 rfl OB_13 pd_X12_number (Nat.le_of_ble_eq_true rfl) hd1 (okX12_number l E A (d - 1)  (by omega)  e28 am9) (hc_rb rfl) rfl (fun am29 ha30 => ?_)
        refine hr_goto hC 92 dX13_unary_76 (by decide) ?_
        obtain rfl := Option.some.inj h
        exact hr_sub _ rfl (J19 am29)
    · rw [if_pos c16] at h
      refine hr_aload_n hC dX13_unary_39 rfl ?_
      refine hr_gO 13 hC F14_5 rfl dX13_unary_40 q800 ?_
      refine hr_iconst (v := 0) hC dX13_unary_43 rfl ?_
      refine hr_bipush (v := 32) hC dX13_unary_44 rfl ?_
      refine hr_iload hC dX13_unary_46 rfl ?_
      refine hr_iconst (v := 0) hC dX13_unary_48 rfl ?_
      refine hr_iload hC dX13_unary_49 rfl ?_
      obtain ⟨r31, e32, h⟩ := hx_bind h
      refine hs_callV hC 13 [_, _, _, _, _] _ dX13_unary_51 q2015 q2000 q2001 q326 q2002 np_X12 rfl OB_13 pd_X12_both (Nat.le_of_ble_eq_true rfl) hd1 (okX12_both l E A (d - 1)  (by omega)  e32 am9) (hc_rb rfl) rfl (fun am33 ha34 => ?_)
      refine hr_goto hC 92 dX13_unary_54 (by decide) ?_
      obtain rfl := Option.some.inj h
      exact hr_sub _ rfl (J19 am33)
  · rw [if_pos c2] at h
    refine hr_aload_n hC dX13_unary_6 rfl ?_
    refine hr_iload_n hC dX13_unary_7 rfl ?_
    refine hr_iload_n hC dX13_unary_8 rfl ?_
    obtain ⟨r40, e41, h⟩ := hx_bind h
    refine hs_callV hC 14 [_, _] _ dX13_unary_9 q2101 q2103 qs112 q327 q2104 np_X13 rfl OB_14 pd_X13_value (Nat.le_of_ble_eq_true rfl) hd1 (IH _ _ _ _ e41 am) (hc_rb rfl) rfl (fun am42 ha43 => ?_)
    obtain rfl := Option.some.inj h
    exact hr_iret hC dX13_unary_12
/-- HomeCompiler$Generator.choice(II)I -/
def bd_X13_choice (n : Nat) (k0 : Nat) (rec : Nat → List Int32 → hc_St → Option (Int32 × hc_St)) (x1 : Int32) (x2 : Int32) (σ : hc_St) : Option (Int32 × hc_St) := Option.bind (fm_X12_label  σ) fun r1 => Option.bind (fm_X12_label  r1.2) fun r5 => Option.bind (fm_X6_next x1 r5.2) fun r9 => Option.bind (rec 7 [x1, r1.1, 0, x2] r5.2) fun r13 => Option.bind (rec 0 [r9, x2] r13.2) fun r17 => Option.bind (fm_X13_copy r17.1 x2 r17.2) fun r21 => Option.bind (fm_X12_jump 0 r5.1 r21.2) fun r25 => Option.bind (fm_X12_here r1.1 r25) fun r29 => Option.bind (fm_X6_next r9 r29) fun r33 => Option.bind (rec 0 [r33, x2] r29) fun r37 => Option.bind (fm_X13_copy r37.1 x2 r37.2) fun r41 => Option.bind (fm_X12_here r5.1 r41.2) fun r45 => some (r41.1, r45)
set_option maxRecDepth 20000 in
set_option maxHeartbeats 4000000 in
theorem okbX13_choice (l : Launch) (E : hc_E) (A : Nat → Prop) (d : Nat) {kk : Nat} (n : Nat) (k0 : Nat) (rec : Nat → List Int32 → hc_St → Option (Int32 × hc_St)) (hD : kk + 1 * k0 + 13 ≤ d) (IH : ∀ (w : Nat) (a : List Int32) (σ : hc_St) (r : (Int32 × hc_St)), rec w a σ = some r → ∀ am, okg_X13_value l E A (d - 1) am w a σ r) {x1 : Int32} {x2 : Int32} {σ : hc_St} {r : (Int32 × hc_St)} (h : bd_X13_choice n k0 rec x1 x2 σ = some r) (am : Nat → Nat → Nat) : hc_M l hc_V0 yX13_choice (ws_ yX13_choice cX13_choice 8 (some .int)) d E A [.ref (E.2.1 14), .int x1, .int x2] am [13] σ (.inl (some (.int r.1))) r.2 := by
  have hd1 : 1 ≤ d := by omega
  have hd8 : 9 ≤ d := by omega
  have hd12 : 12 ≤ d := by omega
  refine hc_enter2 (own := RX13) [(0, .ref (E.2.1 14)), (1, .int x1), (2, .int x2)] pl_X13 rfl hc_V0_st hc_G0_nd rfl (Nat.le_of_ble_eq_true rfl) (fun X hC hem => ?_)
  unfold bd_X13_choice at h
  refine hr_aload_n hC dX13_choice_0 rfl ?_
  refine hr_gO 13 hC F14_5 rfl dX13_choice_1 q800 ?_
  obtain ⟨r1, e2, h⟩ := hx_bind h
  refine hs_callV hC 13 [] _ dX13_choice_4 q1888 q1889 q1890 q326 q1891 np_X12 rfl OB_13 pd_X12_label (Nat.le_of_ble_eq_true rfl) hd1 (okX12_label l E A (d - 1)  (by omega)  e2 am) (hc_rb rfl) rfl (fun am3 ha4 => ?_)
  refine hr_istore_n hC dX13_choice_7 (by decide) ?_
  refine hr_aload_n hC dX13_choice_8 rfl ?_
  refine hr_gO 13 hC F14_5 rfl dX13_choice_9 q800 ?_
  obtain ⟨r5, e6, h⟩ := hx_bind h
  refine hs_callV hC 13 [] _ dX13_choice_12 q1888 q1889 q1890 q326 q1891 np_X12 rfl OB_13 pd_X12_label (Nat.le_of_ble_eq_true rfl) hd1 (okX12_label l E A (d - 1)  (by omega)  e6 am3) (hc_rb rfl) rfl (fun am7 ha8 => ?_)
  refine hr_istore hC dX13_choice_15 (by decide) ?_
  refine hr_aload_n hC dX13_choice_17 rfl ?_
  refine hr_gO 6 hC F14_0 rfl dX13_choice_18 q795 ?_
  refine hr_iload_n hC dX13_choice_21 rfl ?_
  obtain ⟨r9, e10, h⟩ := hx_bind h
  refine hs_callV0 hC 6 [_] _ dX13_choice_22 q2068 q1603 q1604 q320 q1605 np_X6 rfl OB_6 pd_X6_next (Nat.le_of_ble_eq_true rfl) hd1 (okX6_next l E A (d - 1)  (by omega)  e10 am7) rfl ?_
  refine hr_istore hC dX13_choice_25 (by decide) ?_
  refine hr_aload_n hC dX13_choice_27 rfl ?_
  refine hr_iload_n hC dX13_choice_28 rfl ?_
  refine hr_iload_n hC dX13_choice_29 rfl ?_
  refine hr_iconst (v := 0) hC dX13_choice_30 rfl ?_
  refine hr_iload_n hC dX13_choice_31 rfl ?_
  obtain ⟨r13, e14, h⟩ := hx_bind h
  refine hs_callV hC 14 [_, _, _, _] _ dX13_choice_32 q2270 q2272 qs142 q327 q2273 np_X13 rfl OB_14 pd_X13_branch (Nat.le_of_ble_eq_true rfl) hd1 (IH _ _ _ _ e14 am7) (hc_rb rfl) rfl (fun am15 ha16 => ?_)
  refine hr_aload_n hC dX13_choice_35 rfl ?_
  refine hr_aload_n hC dX13_choice_36 rfl ?_
  refine hr_iload hC dX13_choice_37 rfl ?_
  refine hr_iload_n hC dX13_choice_39 rfl ?_
  obtain ⟨r17, e18, h⟩ := hx_bind h
  refine hs_callV hC 14 [_, _] _ dX13_choice_40 q2101 q2103 qs112 q327 q2104 np_X13 rfl OB_14 pd_X13_value (Nat.le_of_ble_eq_true rfl) hd1 (IH _ _ _ _ e18 am15) (hc_rb rfl) rfl (fun am19 ha20 => ?_)
  refine hr_iload_n hC dX13_choice_43 rfl ?_
  obtain ⟨r21, e22, h⟩ := hx_bind h
  refine hs_callV hC 14 [_, _] _ dX13_choice_44 q2203 q2205 qs127 q327 q2206 np_X13 rfl OB_14 pd_X13_copy (Nat.le_of_ble_eq_true rfl) hd1 (okX13_copy l E A (d - 1)  (by omega)  e22 am19) (hc_rb rfl) rfl (fun am23 ha24 => ?_)
  refine hr_istore hC dX13_choice_47 (by decide) ?_
  refine hr_aload_n hC dX13_choice_49 rfl ?_
  refine hr_gO 13 hC F14_5 rfl dX13_choice_50 q800 ?_
  refine hr_iconst (v := 0) hC dX13_choice_53 rfl ?_
  refine hr_iload hC dX13_choice_54 rfl ?_
  obtain ⟨r25, e26, h⟩ := hx_bind h
  refine hs_callV hC 13 [_, _] _ dX13_choice_56 q1904 q1905 q1906 q326 q1907 np_X12 rfl OB_13 pd_X12_jump (Nat.le_of_ble_eq_true rfl) hd1 (okX12_jump l E A (d - 1)  (by omega)  e26 am23) (hc_rb rfl) rfl (fun am27 ha28 => ?_)
  refine hr_aload_n hC dX13_choice_59 rfl ?_
  refine hr_gO 13 hC F14_5 rfl dX13_choice_60 q800 ?_
  refine hr_iload_n hC dX13_choice_63 rfl ?_
  obtain ⟨r29, e30, h⟩ := hx_bind h
  refine hs_callV0 hC 13 [_] _ dX13_choice_64 q1927 q1928 q1929 q326 q1930 np_X12 rfl OB_13 pd_X12_here (Nat.le_of_ble_eq_true rfl) hd1 (okX12_here l E A (d - 1)  (by omega)  e30 am27) rfl ?_
  refine hr_aload_n hC dX13_choice_67 rfl ?_
  refine hr_aload_n hC dX13_choice_68 rfl ?_
  refine hr_aload_n hC dX13_choice_69 rfl ?_
  refine hr_gO 6 hC F14_0 rfl dX13_choice_70 q795 ?_
  refine hr_iload hC dX13_choice_73 rfl ?_
  obtain ⟨r33, e34, h⟩ := hx_bind h
  refine hs_callV0 hC 6 [_] _ dX13_choice_75 q2068 q1603 q1604 q320 q1605 np_X6 rfl OB_6 pd_X6_next (Nat.le_of_ble_eq_true rfl) hd1 (okX6_next l E A (d - 1)  (by omega)  e34 am27) rfl ?_
  refine hr_iload_n hC dX13_choice_78 rfl ?_
  obtain ⟨r37, e38, h⟩ := hx_bind h
  refine hs_callV hC 14 [_, _] _ dX13_choice_79 q2101 q2103 qs112 q327 q2104 np_X13 rfl OB_14 pd_X13_value (Nat.le_of_ble_eq_true rfl) hd1 (IH _ _ _ _ e38 am27) (hc_rb rfl) rfl (fun am39 ha40 => ?_)
  refine hr_iload_n hC dX13_choice_82 rfl ?_
  obtain ⟨r41, e42, h⟩ := hx_bind h
  refine hs_callV hC 14 [_, _] _ dX13_choice_83 q2203 q2205 qs127 q327 q2206 np_X13 rfl OB_14 pd_X13_copy (Nat.le_of_ble_eq_true rfl) hd1 (okX13_copy l E A (d - 1)  (by omega)  e42 am39) (hc_rb rfl) rfl (fun am43 ha44 => ?_)
  refine hr_istore hC dX13_choice_86 (by decide) ?_
  refine hr_aload_n hC dX13_choice_88 rfl ?_
  refine hr_gO 13 hC F14_5 rfl dX13_choice_89 q800 ?_
  refine hr_iload hC dX13_choice_92 rfl ?_
  obtain ⟨r45, e46, h⟩ := hx_bind h
  refine hs_callV0 hC 13 [_] _ dX13_choice_94 q1927 q1928 q1929 q326 q1930 np_X12 rfl OB_13 pd_X12_here (Nat.le_of_ble_eq_true rfl) hd1 (okX12_here l E A (d - 1)  (by omega)  e46 am43) rfl ?_
  refine hr_iload hC dX13_choice_97 rfl ?_
  obtain rfl := Option.some.inj h
  exact hr_iret hC dX13_choice_99
/-- HomeCompiler$Generator.branch(IIZI)V -/
def bd_X13_branch (n : Nat) (k0 : Nat) (rec : Nat → List Int32 → hc_St → Option (Int32 × hc_St)) (x1 : Int32) (x2 : Int32) (x3 : Int32) (x4 : Int32) (σ : hc_St) : Option (Int32 × hc_St) := Option.bind (fm_X14_isNumber n k0 x1 σ) fun r1 => if r1.1 = 0 then (Option.bind (fm_X6_kind x1 r1.2) fun r7 => Option.bind (fm_X6_first x1 r1.2) fun r11 => Option.bind (α := hc_St) (if r7 = 34 then (Option.bind (fm_X6_op x1 r1.2) fun r261 => if r261 = 33 then (hl (α := Int32) ((if x3 = 0 then 1 else 0)) fun v509 => Option.bind (rec 7 [r11, x2, v509, x4] r1.2) fun r510 => some (r510.2)) else (if r7 = 32 then (Option.bind (fm_X6_value x1 r1.2) fun r383 => if 3 ≤ r383 then (if r7 = 32 then (Option.bind (fm_X6_value x1 r1.2) fun r409 => if r409 = 6 then (Option.bind (fm_X6_next r11 r1.2) fun r415 => Option.bind (fm_X6_next r415 r1.2) fun r419 => if r419 = (-1) then (Option.bind (rec 9 [r11, x2, x3, x4] r1.2) fun r443 => some (r443.2)) else (Option.bind (rec 0 [x1, x4] r1.2) fun r425 => Option.bind (fm_X13_use r425.1 5 r425.2) fun r429 => hl (α := Int32) ((if x3 = 0 then 0 else 1)) fun v435 => Option.bind (fm_X12_branch v435 r429.1 0 x2 r429.2) fun r436 => some (r436))) else (Option.bind (fm_X6_value x1 r1.2) fun r447 => if r447 = 7 then (Option.bind (fm_X6_next r11 r1.2) fun r471 => Option.bind (fm_X6_next r471 r1.2) fun r475 => if r475 = (-1) then (Option.bind (rec 9 [r11, x2, x3, x4] r1.2) fun r499 => some (r499.2)) else (Option.bind (rec 0 [x1, x4] r1.2) fun r481 => Option.bind (fm_X13_use r481.1 5 r481.2) fun r485 => hl (α := Int32) ((if x3 = 0 then 0 else 1)) fun v491 => Option.bind (fm_X12_branch v491 r485.1 0 x2 r485.2) fun r492 => some (r492))) else (Option.bind (rec 0 [x1, x4] r1.2) fun r453 => Option.bind (fm_X13_use r453.1 5 r453.2) fun r457 => hl (α := Int32) ((if x3 = 0 then 0 else 1)) fun v463 => Option.bind (fm_X12_branch v463 r457.1 0 x2 r457.2) fun r464 => some (r464)))) else (Option.bind (rec 0 [x1, x4] r1.2) fun r391 => Option.bind (fm_X13_use r391.1 5 r391.2) fun r395 => hl (α := Int32) ((if x3 = 0 then 0 else 1)) fun v401 => Option.bind (fm_X12_branch v401 r395.1 0 x2 r395.2) fun r402 => some (r402))) else (Option.bind (rec 8 [x1, r11, x2, x3, x4] r1.2) fun r503 => some (r503.2))) else (if r7 = 32 then (Option.bind (fm_X6_value x1 r1.2) fun r289 => if r289 = 6 then (Option.bind (fm_X6_next r11 r1.2) fun r295 => Option.bind (fm_X6_next r295 r1.2) fun r299 => if r299 = (-1) then (Option.bind (rec 9 [r11, x2, x3, x4] r1.2) fun r323 => some (r323.2)) else (Option.bind (rec 0 [x1, x4] r1.2) fun r305 => Option.bind (fm_X13_use r305.1 5 r305.2) fun r309 => hl (α := Int32) ((if x3 = 0 then 0 else 1)) fun v315 => Option.bind (fm_X12_branch v315 r309.1 0 x2 r309.2) fun r316 => some (r316))) else (Option.bind (fm_X6_value x1 r1.2) fun r327 => if r327 = 7 then (Option.bind (fm_X6_next r11 r1.2) fun r351 => Option.bind (fm_X6_next r351 r1.2) fun r355 => if r355 = (-1) then (Option.bind (rec 9 [r11, x2, x3, x4] r1.2) fun r379 => some (r379.2)) else (Option.bind (rec 0 [x1, x4] r1.2) fun r361 => Option.bind (fm_X13_use r361.1 5 r361.2) fun r365 => hl (α := Int32) ((if x3 = 0 then 0 else 1)) fun v371 => Option.bind (fm_X12_branch v371 r365.1 0 x2 r365.2) fun r372 => some (r372))) else (Option.bind (rec 0 [x1, x4] r1.2) fun r333 => Option.bind (fm_X13_use r333.1 5 r333.2) fun r337 => hl (α := Int32) ((if x3 = 0 then 0 else 1)) fun v343 => Option.bind (fm_X12_branch v343 r337.1 0 x2 r337.2) fun r344 => some (r344)))) else (Option.bind (rec 0 [x1, x4] r1.2) fun r271 => Option.bind (fm_X13_use r271.1 5 r271.2) fun r275 => hl (α := Int32) ((if x3 = 0 then 0 else 1)) fun v281 => Option.bind (fm_X12_branch v281 r275.1 0 x2 r275.2) fun r282 => some (r282))))) else (if r7 = 32 then (Option.bind (fm_X6_value x1 r1.2) fun r137 => if 3 ≤ r137 then (if r7 = 32 then (Option.bind (fm_X6_value x1 r1.2) fun r163 => if r163 = 6 then (Option.bind (fm_X6_next r11 r1.2) fun r169 => Option.bind (fm_X6_next r169 r1.2) fun r173 => if r173 = (-1) then (Option.bind (rec 9 [r11, x2, x3, x4] r1.2) fun r197 => some (r197.2)) else (Option.bind (rec 0 [x1, x4] r1.2) fun r179 => Option.bind (fm_X13_use r179.1 5 r179.2) fun r183 => hl (α := Int32) ((if x3 = 0 then 0 else 1)) fun v189 => Option.bind (fm_X12_branch v189 r183.1 0 x2 r183.2) fun r190 => some (r190))) else (Option.bind (fm_X6_value x1 r1.2) fun r201 => if r201 = 7 then (Option.bind (fm_X6_next r11 r1.2) fun r225 => Option.bind (fm_X6_next r225 r1.2) fun r229 => if r229 = (-1) then (Option.bind (rec 9 [r11, x2, x3, x4] r1.2) fun r253 => some (r253.2)) else (Option.bind (rec 0 [x1, x4] r1.2) fun r235 => Option.bind (fm_X13_use r235.1 5 r235.2) fun r239 => hl (α := Int32) ((if x3 = 0 then 0 else 1)) fun v245 => Option.bind (fm_X12_branch v245 r239.1 0 x2 r239.2) fun r246 => some (r246))) else (Option.bind (rec 0 [x1, x4] r1.2) fun r207 => Option.bind (fm_X13_use r207.1 5 r207.2) fun r211 => hl (α := Int32) ((if x3 = 0 then 0 else 1)) fun v217 => Option.bind (fm_X12_branch v217 r211.1 0 x2 r211.2) fun r218 => some (r218)))) else (Option.bind (rec 0 [x1, x4] r1.2) fun r145 => Option.bind (fm_X13_use r145.1 5 r145.2) fun r149 => hl (α := Int32) ((if x3 = 0 then 0 else 1)) fun v155 => Option.bind (fm_X12_branch v155 r149.1 0 x2 r149.2) fun r156 => some (r156))) else (Option.bind (rec 8 [x1, r11, x2, x3, x4] r1.2) fun r257 => some (r257.2))) else (if r7 = 32 then (Option.bind (fm_X6_value x1 r1.2) fun r43 => if r43 = 6 then (Option.bind (fm_X6_next r11 r1.2) fun r49 => Option.bind (fm_X6_next r49 r1.2) fun r53 => if r53 = (-1) then (Option.bind (rec 9 [r11, x2, x3, x4] r1.2) fun r77 => some (r77.2)) else (Option.bind (rec 0 [x1, x4] r1.2) fun r59 => Option.bind (fm_X13_use r59.1 5 r59.2) fun r63 => hl (α := Int32) ((if x3 = 0 then 0 else 1)) fun v69 => Option.bind (fm_X12_branch v69 r63.1 0 x2 r63.2) fun r70 => some (r70))) else (Option.bind (fm_X6_value x1 r1.2) fun r81 => if r81 = 7 then (Option.bind (fm_X6_next r11 r1.2) fun r105 => Option.bind (fm_X6_next r105 r1.2) fun r109 => if r109 = (-1) then (Option.bind (rec 9 [r11, x2, x3, x4] r1.2) fun r133 => some (r133.2)) else (Option.bind (rec 0 [x1, x4] r1.2) fun r115 => Option.bind (fm_X13_use r115.1 5 r115.2) fun r119 => hl (α := Int32) ((if x3 = 0 then 0 else 1)) fun v125 => Option.bind (fm_X12_branch v125 r119.1 0 x2 r119.2) fun r126 => some (r126))) else (Option.bind (rec 0 [x1, x4] r1.2) fun r87 => Option.bind (fm_X13_use r87.1 5 r87.2) fun r91 => hl (α := Int32) ((if x3 = 0 then 0 else 1)) fun v97 => Option.bind (fm_X12_branch v97 r91.1 0 x2 r91.2) fun r98 => some (r98)))) else (Option.bind (rec 0 [x1, x4] r1.2) fun r25 => Option.bind (fm_X13_use r25.1 5 r25.2) fun r29 => hl (α := Int32) ((if x3 = 0 then 0 else 1)) fun v35 => Option.bind (fm_X12_branch v35 r29.1 0 x2 r29.2) fun r36 => some (r36))))) fun r17 => some (0, r17)) else (Option.bind (fm_X14_value  r1.2) fun r518 => hl (α := Int32) ((if r518 = 0 then 0 else 1)) fun v524 => Option.bind (α := hc_St) (if v524 = x3 then (Option.bind (fm_X12_jump 0 x2 r1.2) fun r531 => some (r531)) else (some (r1.2))) fun r527 => some (0, r527))
set_option maxRecDepth 20000 in
set_option maxHeartbeats 4000000 in
theorem okbX13_branch (l : Launch) (E : hc_E) (A : Nat → Prop) (d : Nat) {kk : Nat} (n : Nat) (k0 : Nat) (rec : Nat → List Int32 → hc_St → Option (Int32 × hc_St)) (hD : kk + 1 * k0 + 13 ≤ d) (IH : ∀ (w : Nat) (a : List Int32) (σ : hc_St) (r : (Int32 × hc_St)), rec w a σ = some r → ∀ am, okg_X13_value l E A (d - 1) am w a σ r) {x1 : Int32} {x2 : Int32} {x3 : Int32} {x4 : Int32} {σ : hc_St} {r : (Int32 × hc_St)} (h : bd_X13_branch n k0 rec x1 x2 x3 x4 σ = some r) (am : Nat → Nat → Nat) : hc_M l hc_V0 yX13_branch (ws_ yX13_branch cX13_branch 8 none) d E A [.ref (E.2.1 14), .int x1, .int x2, .int x3, .int x4] am [13] σ (.inl (none)) r.2 := by
  have hd1 : 1 ≤ d := by omega
  have hd8 : 9 ≤ d := by omega
  have hd12 : 12 ≤ d := by omega
  refine hc_enter2 (own := RX13) [(0, .ref (E.2.1 14)), (1, .int x1), (2, .int x2), (3, .int x3), (4, .int x4)] pl_X13 rfl hc_V0_st hc_G0_nd rfl (Nat.le_of_ble_eq_true rfl) (fun X hC hem => ?_)
  unfold bd_X13_branch at h
  refine hr_aload_n hC dX13_branch_0 rfl ?_
  refine hr_gO 15 hC F14_6 rfl dX13_branch_1 q801 ?_
  refine hr_iload_n hC dX13_branch_4 rfl ?_
  obtain ⟨r1, e2, h⟩ := hx_bind h
  refine hs_callV0 hC 15 [_] _ dX13_branch_5 q2105 q2106 q2107 q328 q2108 np_X14 rfl OB_15 pd_X14_isNumber (Nat.le_of_ble_eq_true rfl) hd1 (okX14_isNumber l E A (d - 1) n k0 (by omega)  e2 am) rfl ?_
  refine hr_if_eq (x := _) hC 40 dX13_branch_8 (by decide) (fun c6 => ?_) (fun c6 => ?_)
  · rw [if_pos c6] at h
    refine hr_aload_n hC dX13_branch_40 rfl ?_
    refine hr_gO 6 hC F14_0 rfl dX13_branch_41 q795 ?_
    refine hr_iload_n hC dX13_branch_44 rfl ?_
    obtain ⟨r7, e8, h⟩ := hx_bind h
    refine hs_callV0 hC 6 [_] _ dX13_branch_45 q2049 q1369 q1370 q320 q1371 np_X6 rfl OB_6 pd_X6_kind (Nat.le_of_ble_eq_true rfl) hd1 (okX6_kind l E A (d - 1)  (by omega)  e8 am) rfl ?_
    refine hr_istore hC dX13_branch_48 (by decide) ?_
    refine hr_aload_n hC dX13_branch_50 rfl ?_
    refine hr_gO 6 hC F14_0 rfl dX13_branch_51 q795 ?_
    refine hr_iload_n hC dX13_branch_54 rfl ?_
    obtain ⟨r11, e12, h⟩ := hx_bind h
    refine hs_callV0 hC 6 [_] _ dX13_branch_55 q2048 q1576 q1577 q320 q1578 np_X6 rfl OB_6 pd_X6_first (Nat.le_of_ble_eq_true rfl) hd1 (okX6_first l E A (d - 1)  (by omega)  e12 am) rfl ?_
    refine hr_istore hC dX13_branch_58 (by decide) ?_
    refine hr_iload hC dX13_branch_60 rfl ?_
    refine hr_bipush (v := 34) hC dX13_branch_62 rfl ?_
    obtain ⟨r17, e18, h⟩ := hx_bind h
    have J19 : ∀ am517, hc_At hc_V0 E 8 X 234 [] [] r17 am517 [] := by
      intro am517
      obtain rfl := Option.some.inj h
      exact hr_vret hC dX13_branch_234
    clear h
    have h := e18
    refine hr_icmp_ne (x := _) hC 101 dX13_branch_64 (by decide) (fun c16 => ?_) (fun c16 => ?_)
    · rw [if_neg c16] at h
      refine hr_iload hC dX13_branch_101 rfl ?_
      refine hr_bipush (v := 32) hC dX13_branch_103 rfl ?_
      refine hr_icmp_ne (x := _) hC 134 dX13_branch_105 (by decide) (fun c22 => ?_) (fun c22 => ?_)
      · rw [if_neg c22] at h
        refine hr_iload hC dX13_branch_134 rfl ?_
        refine hr_bipush (v := 32) hC dX13_branch_136 rfl ?_
        refine hr_icmp_ne (x := _) hC 200 dX13_branch_138 (by decide) (fun c24 => ?_) (fun c24 => ?_)
        · rw [if_neg c24] at h
          refine hr_aload_n hC dX13_branch_200 rfl ?_
          refine hr_aload_n hC dX13_branch_201 rfl ?_
          refine hr_iload_n hC dX13_branch_202 rfl ?_
          refine hr_iload hC dX13_branch_203 rfl ?_
          obtain ⟨r25, e26, h⟩ := hx_bind h
          refine hs_callV hC 14 [_, _] _ dX13_branch_205 q2101 q2103 qs112 q327 q2104 np_X13 rfl OB_14 pd_X13_value (Nat.le_of_ble_eq_true rfl) hd1 (IH _ _ _ _ e26 am) (hc_rb rfl) rfl (fun am27 ha28 => ?_)
          refine hr_iconst (v := 5) hC dX13_branch_208 rfl ?_
          obtain ⟨r29, e30, h⟩ := hx_bind h
          refine hs_callV hC 14 [_, _] _ dX13_branch_209 q2167 q2169 qs121 q327 q2170 np_X13 rfl OB_14 pd_X13_use (Nat.le_of_ble_eq_true rfl) hd1 (okX13_use l E A (d - 1)  (by omega)  e30 am27) (hc_rb rfl) rfl (fun am31 ha32 => ?_)
          refine hr_istore hC dX13_branch_212 (by decide) ?_
          refine hr_aload_n hC dX13_branch_214 rfl ?_
          refine hr_gO 13 hC F14_5 rfl dX13_branch_215 q800 ?_
          refine hr_iload_n hC dX13_branch_218 rfl ?_
          obtain ⟨v35, hv35, h⟩ := hl_ok h
          have J40 : ∀ w41 : Int32, (if x3 = 0 then 0 else 1) = w41 → hc_At hc_V0 E 8 X 227 [(2, .int x2), (7, .int r29.1)] [.int w41, .ref (E.2.1 13)] r29.2 am31 [] := by
            intro w41 hw41
            obtain rfl := hv35.trans hw41
            refine hr_iload hC dX13_branch_227 rfl ?_
            refine hr_iconst (v := 0) hC dX13_branch_229 rfl ?_
            refine hr_iload_n hC dX13_branch_230 rfl ?_
            obtain ⟨r36, e37, h⟩ := hx_bind h
            refine hs_callV hC 13 [_, _, _, _] _ dX13_branch_231 q1987 q1988 q1989 q326 q1990 np_X12 rfl OB_13 pd_X12_branch (Nat.le_of_ble_eq_true rfl) hd1 (okX12_branch l E A (d - 1)  (by omega)  e37 am31) (hc_rb rfl) rfl (fun am38 ha39 => ?_)
            obtain rfl := Option.some.inj h
            exact hr_sub _ rfl (J19 am38)
          refine hr_if_eq (x := _) hC 226 dX13_branch_219 (by decide) (fun c42 => ?_) (fun c42 => ?_)
          · refine hr_iconst (v := 0) hC dX13_branch_226 rfl ?_
            exact hr_sub _ rfl (J40 _ (by first | (rw [if_pos c42]; done) | (simp only [if_pos c42]; done) | rfl))
          · refine hr_iconst (v := 1) hC dX13_branch_222 rfl ?_
            refine hr_goto hC 227 dX13_branch_223 (by decide) ?_
            exact hr_sub _ rfl (J40 _ (by first | (rw [if_neg c42]; done) | (simp only [if_neg c42]; done) | rfl))
        · rw [if_pos c24] at h
          refine hr_aload_n hC dX13_branch_141 rfl ?_
          refine hr_gO 6 hC F14_0 rfl dX13_branch_142 q795 ?_
          refine hr_iload_n hC dX13_branch_145 rfl ?_
          obtain ⟨r43, e44, h⟩ := hx_bind h
          refine hs_callV0 hC 6 [_] _ dX13_branch_146 q2099 q1586 q1587 q320 q1588 np_X6 rfl OB_6 pd_X6_value (Nat.le_of_ble_eq_true rfl) hd1 (okX6_value l E A (d - 1)  (by omega)  e44 am) rfl ?_
          refine hr_bipush (v := 6) hC dX13_branch_149 rfl ?_
          refine hr_icmp_eq (x := _) hC 167 dX13_branch_151 (by decide) (fun c48 => ?_) (fun c48 => ?_)
          · rw [if_pos c48] at h
            refine hr_aload_n hC dX13_branch_167 rfl ?_
            refine hr_gO 6 hC F14_0 rfl dX13_branch_168 q795 ?_
            refine hr_aload_n hC dX13_branch_171 rfl ?_
            refine hr_gO 6 hC F14_0 rfl dX13_branch_172 q795 ?_
            refine hr_iload hC dX13_branch_175 rfl ?_
            obtain ⟨r49, e50, h⟩ := hx_bind h
            refine hs_callV0 hC 6 [_] _ dX13_branch_177 q2068 q1603 q1604 q320 q1605 np_X6 rfl OB_6 pd_X6_next (Nat.le_of_ble_eq_true rfl) hd1 (okX6_next l E A (d - 1)  (by omega)  e50 am) rfl ?_
            obtain ⟨r53, e54, h⟩ := hx_bind h
            refine hs_callV0 hC 6 [_] _ dX13_branch_180 q2068 q1603 q1604 q320 q1605 np_X6 rfl OB_6 pd_X6_next (Nat.le_of_ble_eq_true rfl) hd1 (okX6_next l E A (d - 1)  (by omega)  e54 am) rfl ?_
            refine hr_iconst (v := (-1)) hC dX13_branch_183 rfl ?_
            refine hr_icmp_ne (x := _) hC 200 dX13_branch_184 (by decide) (fun c58 => ?_) (fun c58 => ?_)
            · rw [if_neg c58] at h
              refine hr_aload_n hC dX13_branch_200 rfl ?_
              refine hr_aload_n hC dX13_branch_201 rfl ?_
              refine hr_iload_n hC dX13_branch_202 rfl ?_
              refine hr_iload hC dX13_branch_203 rfl ?_
              obtain ⟨r59, e60, h⟩ := hx_bind h
              refine hs_callV hC 14 [_, _] _ dX13_branch_205 q2101 q2103 qs112 q327 q2104 np_X13 rfl OB_14 pd_X13_value (Nat.le_of_ble_eq_true rfl) hd1 (IH _ _ _ _ e60 am) (hc_rb rfl) rfl (fun am61 ha62 => ?_)
              refine hr_iconst (v := 5) hC dX13_branch_208 rfl ?_
              obtain ⟨r63, e64, h⟩ := hx_bind h
              refine hs_callV hC 14 [_, _] _ dX13_branch_209 q2167 q2169 qs121 q327 q2170 np_X13 rfl OB_14 pd_X13_use (Nat.le_of_ble_eq_true rfl) hd1 (okX13_use l E A (d - 1)  (by omega)  e64 am61) (hc_rb rfl) rfl (fun am65 ha66 => ?_)
              refine hr_istore hC dX13_branch_212 (by decide) ?_
              refine hr_aload_n hC dX13_branch_214 rfl ?_
              refine hr_gO 13 hC F14_5 rfl dX13_branch_215 q800 ?_
              refine hr_iload_n hC dX13_branch_218 rfl ?_
              obtain ⟨v69, hv69, h⟩ := hl_ok h
              have J74 : ∀ w75 : Int32, (if x3 = 0 then 0 else 1) = w75 → hc_At hc_V0 E 8 X 227 [(2, .int x2), (7, .int r63.1)] [.int w75, .ref (E.2.1 13)] r63.2 am65 [] := by
                intro w75 hw75
                obtain rfl := hv69.trans hw75
                refine hr_iload hC dX13_branch_227 rfl ?_
                refine hr_iconst (v := 0) hC dX13_branch_229 rfl ?_
                refine hr_iload_n hC dX13_branch_230 rfl ?_
                obtain ⟨r70, e71, h⟩ := hx_bind h
                refine hs_callV hC 13 [_, _, _, _] _ dX13_branch_231 q1987 q1988 q1989 q326 q1990 np_X12 rfl OB_13 pd_X12_branch (Nat.le_of_ble_eq_true rfl) hd1 (okX12_branch l E A (d - 1)  (by omega)  e71 am65) (hc_rb rfl) rfl (fun am72 ha73 => ?_)
                obtain rfl := Option.some.inj h
                exact hr_sub _ rfl (J19 am72)
              refine hr_if_eq (x := _) hC 226 dX13_branch_219 (by decide) (fun c76 => ?_) (fun c76 => ?_)
              · refine hr_iconst (v := 0) hC dX13_branch_226 rfl ?_
                exact hr_sub _ rfl (J74 _ (by first | (rw [if_pos c76]; done) | (simp only [if_pos c76]; done) | rfl))
              · refine hr_iconst (v := 1) hC dX13_branch_222 rfl ?_
                refine hr_goto hC 227 dX13_branch_223 (by decide) ?_
                exact hr_sub _ rfl (J74 _ (by first | (rw [if_neg c76]; done) | (simp only [if_neg c76]; done) | rfl))
            · rw [if_pos c58] at h
              refine hr_aload_n hC dX13_branch_187 rfl ?_
              refine hr_iload hC dX13_branch_188 rfl ?_
              refine hr_iload_n hC dX13_branch_190 rfl ?_
              refine hr_iload_n hC dX13_branch_191 rfl ?_
              refine hr_iload hC dX13_branch_192 rfl ?_
              obtain ⟨r77, e78, h⟩ := hx_bind h
              refine hs_callV hC 14 [_, _, _, _] _ dX13_branch_194 q2278 q2280 qs144 q327 q2281 np_X13 rfl OB_14 pd_X13_compared (Nat.le_of_ble_eq_true rfl) hd1 (IH _ _ _ _ e78 am) (hc_rb rfl) rfl (fun am79 ha80 => ?_)
              refine hr_goto hC 234 dX13_branch_197 (by decide) ?_
              obtain rfl := Option.some.inj h
              exact hr_sub _ rfl (J19 am79)
          · rw [if_neg c48] at h
            refine hr_aload_n hC dX13_branch_154 rfl ?_
            refine hr_gO 6 hC F14_0 rfl dX13_branch_155 q795 ?_
            refine hr_iload_n hC dX13_branch_158 rfl ?_
            obtain ⟨r81, e82, h⟩ := hx_bind h
            refine hs_callV0 hC 6 [_] _ dX13_branch_159 q2099 q1586 q1587 q320 q1588 np_X6 rfl OB_6 pd_X6_value (Nat.le_of_ble_eq_true rfl) hd1 (okX6_value l E A (d - 1)  (by omega)  e82 am) rfl ?_
            refine hr_bipush (v := 7) hC dX13_branch_162 rfl ?_
            refine hr_icmp_ne (x := _) hC 200 dX13_branch_164 (by decide) (fun c86 => ?_) (fun c86 => ?_)
            · rw [if_neg c86] at h
              refine hr_aload_n hC dX13_branch_200 rfl ?_
              refine hr_aload_n hC dX13_branch_201 rfl ?_
              refine hr_iload_n hC dX13_branch_202 rfl ?_
              refine hr_iload hC dX13_branch_203 rfl ?_
              obtain ⟨r87, e88, h⟩ := hx_bind h
              refine hs_callV hC 14 [_, _] _ dX13_branch_205 q2101 q2103 qs112 q327 q2104 np_X13 rfl OB_14 pd_X13_value (Nat.le_of_ble_eq_true rfl) hd1 (IH _ _ _ _ e88 am) (hc_rb rfl) rfl (fun am89 ha90 => ?_)
              refine hr_iconst (v := 5) hC dX13_branch_208 rfl ?_
              obtain ⟨r91, e92, h⟩ := hx_bind h
              refine hs_callV hC 14 [_, _] _ dX13_branch_209 q2167 q2169 qs121 q327 q2170 np_X13 rfl OB_14 pd_X13_use (Nat.le_of_ble_eq_true rfl) hd1 (okX13_use l E A (d - 1)  (by omega)  e92 am89) (hc_rb rfl) rfl (fun am93 ha94 => ?_)
              refine hr_istore hC dX13_branch_212 (by decide) ?_
              refine hr_aload_n hC dX13_branch_214 rfl ?_
              refine hr_gO 13 hC F14_5 rfl dX13_branch_215 q800 ?_
              refine hr_iload_n hC dX13_branch_218 rfl ?_
              obtain ⟨v97, hv97, h⟩ := hl_ok h
              have J102 : ∀ w103 : Int32, (if x3 = 0 then 0 else 1) = w103 → hc_At hc_V0 E 8 X 227 [(2, .int x2), (7, .int r91.1)] [.int w103, .ref (E.2.1 13)] r91.2 am93 [] := by
                intro w103 hw103
                obtain rfl := hv97.trans hw103
                refine hr_iload hC dX13_branch_227 rfl ?_
                refine hr_iconst (v := 0) hC dX13_branch_229 rfl ?_
                refine hr_iload_n hC dX13_branch_230 rfl ?_
                obtain ⟨r98, e99, h⟩ := hx_bind h
                refine hs_callV hC 13 [_, _, _, _] _ dX13_branch_231 q1987 q1988 q1989 q326 q1990 np_X12 rfl OB_13 pd_X12_branch (Nat.le_of_ble_eq_true rfl) hd1 (okX12_branch l E A (d - 1)  (by omega)  e99 am93) (hc_rb rfl) rfl (fun am100 ha101 => ?_)
                obtain rfl := Option.some.inj h
                exact hr_sub _ rfl (J19 am100)
              refine hr_if_eq (x := _) hC 226 dX13_branch_219 (by decide) (fun c104 => ?_) (fun c104 => ?_)
              · refine hr_iconst (v := 0) hC dX13_branch_226 rfl ?_
                exact hr_sub _ rfl (J102 _ (by first | (rw [if_pos c104]; done) | (simp only [if_pos c104]; done) | rfl))
              · refine hr_iconst (v := 1) hC dX13_branch_222 rfl ?_
                refine hr_goto hC 227 dX13_branch_223 (by decide) ?_
                exact hr_sub _ rfl (J102 _ (by first | (rw [if_neg c104]; done) | (simp only [if_neg c104]; done) | rfl))
            · rw [if_pos c86] at h
              refine hr_aload_n hC dX13_branch_167 rfl ?_
              refine hr_gO 6 hC F14_0 rfl dX13_branch_168 q795 ?_
              refine hr_aload_n hC dX13_branch_171 rfl ?_
              refine hr_gO 6 hC F14_0 rfl dX13_branch_172 q795 ?_
              refine hr_iload hC dX13_branch_175 rfl ?_
              obtain ⟨r105, e106, h⟩ := hx_bind h
              refine hs_callV0 hC 6 [_] _ dX13_branch_177 q2068 q1603 q1604 q320 q1605 np_X6 rfl OB_6 pd_X6_next (Nat.le_of_ble_eq_true rfl) hd1 (okX6_next l E A (d - 1)  (by omega)  e106 am) rfl ?_
              obtain ⟨r109, e110, h⟩ := hx_bind h
              refine hs_callV0 hC 6 [_] _ dX13_branch_180 q2068 q1603 q1604 q320 q1605 np_X6 rfl OB_6 pd_X6_next (Nat.le_of_ble_eq_true rfl) hd1 (okX6_next l E A (d - 1)  (by omega)  e110 am) rfl ?_
              refine hr_iconst (v := (-1)) hC dX13_branch_183 rfl ?_
              refine hr_icmp_ne (x := _) hC 200 dX13_branch_184 (by decide) (fun c114 => ?_) (fun c114 => ?_)
              · rw [if_neg c114] at h
                refine hr_aload_n hC dX13_branch_200 rfl ?_
                refine hr_aload_n hC dX13_branch_201 rfl ?_
                refine hr_iload_n hC dX13_branch_202 rfl ?_
                refine hr_iload hC dX13_branch_203 rfl ?_
                obtain ⟨r115, e116, h⟩ := hx_bind h
                refine hs_callV hC 14 [_, _] _ dX13_branch_205 q2101 q2103 qs112 q327 q2104 np_X13 rfl OB_14 pd_X13_value (Nat.le_of_ble_eq_true rfl) hd1 (IH _ _ _ _ e116 am) (hc_rb rfl) rfl (fun am117 ha118 => ?_)
                refine hr_iconst (v := 5) hC dX13_branch_208 rfl ?_
                obtain ⟨r119, e120, h⟩ := hx_bind h
                refine hs_callV hC 14 [_, _] _ dX13_branch_209 q2167 q2169 qs121 q327 q2170 np_X13 rfl OB_14 pd_X13_use (Nat.le_of_ble_eq_true rfl) hd1 (okX13_use l E A (d - 1)  (by omega)  e120 am117) (hc_rb rfl) rfl (fun am121 ha122 => ?_)
                refine hr_istore hC dX13_branch_212 (by decide) ?_
                refine hr_aload_n hC dX13_branch_214 rfl ?_
                refine hr_gO 13 hC F14_5 rfl dX13_branch_215 q800 ?_
                refine hr_iload_n hC dX13_branch_218 rfl ?_
                obtain ⟨v125, hv125, h⟩ := hl_ok h
                have J130 : ∀ w131 : Int32, (if x3 = 0 then 0 else 1) = w131 → hc_At hc_V0 E 8 X 227 [(2, .int x2), (7, .int r119.1)] [.int w131, .ref (E.2.1 13)] r119.2 am121 [] := by
                  intro w131 hw131
                  obtain rfl := hv125.trans hw131
                  refine hr_iload hC dX13_branch_227 rfl ?_
                  refine hr_iconst (v := 0) hC dX13_branch_229 rfl ?_
                  refine hr_iload_n hC dX13_branch_230 rfl ?_
                  obtain ⟨r126, e127, h⟩ := hx_bind h
                  refine hs_callV hC 13 [_, _, _, _] _ dX13_branch_231 q1987 q1988 q1989 q326 q1990 np_X12 rfl OB_13 pd_X12_branch (Nat.le_of_ble_eq_true rfl) hd1 (okX12_branch l E A (d - 1)  (by omega)  e127 am121) (hc_rb rfl) rfl (fun am128 ha129 => ?_)
                  obtain rfl := Option.some.inj h
                  exact hr_sub _ rfl (J19 am128)
                refine hr_if_eq (x := _) hC 226 dX13_branch_219 (by decide) (fun c132 => ?_) (fun c132 => ?_)
                · refine hr_iconst (v := 0) hC dX13_branch_226 rfl ?_
                  exact hr_sub _ rfl (J130 _ (by first | (rw [if_pos c132]; done) | (simp only [if_pos c132]; done) | rfl))
                · refine hr_iconst (v := 1) hC dX13_branch_222 rfl ?_
                  refine hr_goto hC 227 dX13_branch_223 (by decide) ?_
                  exact hr_sub _ rfl (J130 _ (by first | (rw [if_neg c132]; done) | (simp only [if_neg c132]; done) | rfl))
              · rw [if_pos c114] at h
                refine hr_aload_n hC dX13_branch_187 rfl ?_
                refine hr_iload hC dX13_branch_188 rfl ?_
                refine hr_iload_n hC dX13_branch_190 rfl ?_
                refine hr_iload_n hC dX13_branch_191 rfl ?_
                refine hr_iload hC dX13_branch_192 rfl ?_
                obtain ⟨r133, e134, h⟩ := hx_bind h
                refine hs_callV hC 14 [_, _, _, _] _ dX13_branch_194 q2278 q2280 qs144 q327 q2281 np_X13 rfl OB_14 pd_X13_compared (Nat.le_of_ble_eq_true rfl) hd1 (IH _ _ _ _ e134 am) (hc_rb rfl) rfl (fun am135 ha136 => ?_)
                refine hr_goto hC 234 dX13_branch_197 (by decide) ?_
                obtain rfl := Option.some.inj h
                exact hr_sub _ rfl (J19 am135)
      · rw [if_pos c22] at h
        refine hr_aload_n hC dX13_branch_108 rfl ?_
        refine hr_gO 6 hC F14_0 rfl dX13_branch_109 q795 ?_
        refine hr_iload_n hC dX13_branch_112 rfl ?_
        obtain ⟨r137, e138, h⟩ := hx_bind h
        refine hs_callV0 hC 6 [_] _ dX13_branch_113 q2099 q1586 q1587 q320 q1588 np_X6 rfl OB_6 pd_X6_value (Nat.le_of_ble_eq_true rfl) hd1 (okX6_value l E A (d - 1)  (by omega)  e138 am) rfl ?_
        refine hr_iconst (v := 3) hC dX13_branch_116 rfl ?_
        refine hr_icmp_ge (x := _) hC 134 dX13_branch_117 (by decide) (fun c142 => ?_) (fun c142 => ?_)
        · rw [if_pos c142] at h
          refine hr_iload hC dX13_branch_134 rfl ?_
          refine hr_bipush (v := 32) hC dX13_branch_136 rfl ?_
          refine hr_icmp_ne (x := _) hC 200 dX13_branch_138 (by decide) (fun c144 => ?_) (fun c144 => ?_)
          · rw [if_neg c144] at h
            refine hr_aload_n hC dX13_branch_200 rfl ?_
            refine hr_aload_n hC dX13_branch_201 rfl ?_
            refine hr_iload_n hC dX13_branch_202 rfl ?_
            refine hr_iload hC dX13_branch_203 rfl ?_
            obtain ⟨r145, e146, h⟩ := hx_bind h
            refine hs_callV hC 14 [_, _] _ dX13_branch_205 q2101 q2103 qs112 q327 q2104 np_X13 rfl OB_14 pd_X13_value (Nat.le_of_ble_eq_true rfl) hd1 (IH _ _ _ _ e146 am) (hc_rb rfl) rfl (fun am147 ha148 => ?_)
            refine hr_iconst (v := 5) hC dX13_branch_208 rfl ?_
            obtain ⟨r149, e150, h⟩ := hx_bind h
            refine hs_callV hC 14 [_, _] _ dX13_branch_209 q2167 q2169 qs121 q327 q2170 np_X13 rfl OB_14 pd_X13_use (Nat.le_of_ble_eq_true rfl) hd1 (okX13_use l E A (d - 1)  (by omega)  e150 am147) (hc_rb rfl) rfl (fun am151 ha152 => ?_)
            refine hr_istore hC dX13_branch_212 (by decide) ?_
            refine hr_aload_n hC dX13_branch_214 rfl ?_
            refine hr_gO 13 hC F14_5 rfl dX13_branch_215 q800 ?_
            refine hr_iload_n hC dX13_branch_218 rfl ?_
            obtain ⟨v155, hv155, h⟩ := hl_ok h
            have J160 : ∀ w161 : Int32, (if x3 = 0 then 0 else 1) = w161 → hc_At hc_V0 E 8 X 227 [(2, .int x2), (7, .int r149.1)] [.int w161, .ref (E.2.1 13)] r149.2 am151 [] := by
              intro w161 hw161
              obtain rfl := hv155.trans hw161
              refine hr_iload hC dX13_branch_227 rfl ?_
              refine hr_iconst (v := 0) hC dX13_branch_229 rfl ?_
              refine hr_iload_n hC dX13_branch_230 rfl ?_
              obtain ⟨r156, e157, h⟩ := hx_bind h
              refine hs_callV hC 13 [_, _, _, _] _ dX13_branch_231 q1987 q1988 q1989 q326 q1990 np_X12 rfl OB_13 pd_X12_branch (Nat.le_of_ble_eq_true rfl) hd1 (okX12_branch l E A (d - 1)  (by omega)  e157 am151) (hc_rb rfl) rfl (fun am158 ha159 => ?_)
              obtain rfl := Option.some.inj h
              exact hr_sub _ rfl (J19 am158)
            refine hr_if_eq (x := _) hC 226 dX13_branch_219 (by decide) (fun c162 => ?_) (fun c162 => ?_)
            · refine hr_iconst (v := 0) hC dX13_branch_226 rfl ?_
              exact hr_sub _ rfl (J160 _ (by first | (rw [if_pos c162]; done) | (simp only [if_pos c162]; done) | rfl))
            · refine hr_iconst (v := 1) hC dX13_branch_222 rfl ?_
              refine hr_goto hC 227 dX13_branch_223 (by decide) ?_
              exact hr_sub _ rfl (J160 _ (by first | (rw [if_neg c162]; done) | (simp only [if_neg c162]; done) | rfl))
          · rw [if_pos c144] at h
            refine hr_aload_n hC dX13_branch_141 rfl ?_
            refine hr_gO 6 hC F14_0 rfl dX13_branch_142 q795 ?_
            refine hr_iload_n hC dX13_branch_145 rfl ?_
            obtain ⟨r163, e164, h⟩ := hx_bind h
            refine hs_callV0 hC 6 [_] _ dX13_branch_146 q2099 q1586 q1587 q320 q1588 np_X6 rfl OB_6 pd_X6_value (Nat.le_of_ble_eq_true rfl) hd1 (okX6_value l E A (d - 1)  (by omega)  e164 am) rfl ?_
            refine hr_bipush (v := 6) hC dX13_branch_149 rfl ?_
            refine hr_icmp_eq (x := _) hC 167 dX13_branch_151 (by decide) (fun c168 => ?_) (fun c168 => ?_)
            · rw [if_pos c168] at h
              refine hr_aload_n hC dX13_branch_167 rfl ?_
              refine hr_gO 6 hC F14_0 rfl dX13_branch_168 q795 ?_
              refine hr_aload_n hC dX13_branch_171 rfl ?_
              refine hr_gO 6 hC F14_0 rfl dX13_branch_172 q795 ?_
              refine hr_iload hC dX13_branch_175 rfl ?_
              obtain ⟨r169, e170, h⟩ := hx_bind h
              refine hs_callV0 hC 6 [_] _ dX13_branch_177 q2068 q1603 q1604 q320 q1605 np_X6 rfl OB_6 pd_X6_next (Nat.le_of_ble_eq_true rfl) hd1 (okX6_next l E A (d - 1)  (by omega)  e170 am) rfl ?_
              obtain ⟨r173, e174, h⟩ := hx_bind h
              refine hs_callV0 hC 6 [_] _ dX13_branch_180 q2068 q1603 q1604 q320 q1605 np_X6 rfl OB_6 pd_X6_next (Nat.le_of_ble_eq_true rfl) hd1 (okX6_next l E A (d - 1)  (by omega)  e174 am) rfl ?_
              refine hr_iconst (v := (-1)) hC dX13_branch_183 rfl ?_
              refine hr_icmp_ne (x := _) hC 200 dX13_branch_184 (by decide) (fun c178 => ?_) (fun c178 => ?_)
              · rw [if_neg c178] at h
                refine hr_aload_n hC dX13_branch_200 rfl ?_
                refine hr_aload_n hC dX13_branch_201 rfl ?_
                refine hr_iload_n hC dX13_branch_202 rfl ?_
                refine hr_iload hC dX13_branch_203 rfl ?_
                obtain ⟨r179, e180, h⟩ := hx_bind h
                refine hs_callV hC 14 [_, _] _ dX13_branch_205 q2101 q2103 qs112 q327 q2104 np_X13 rfl OB_14 pd_X13_value (Nat.le_of_ble_eq_true rfl) hd1 (IH _ _ _ _ e180 am) (hc_rb rfl) rfl (fun am181 ha182 => ?_)
                refine hr_iconst (v := 5) hC dX13_branch_208 rfl ?_
                obtain ⟨r183, e184, h⟩ := hx_bind h
                refine hs_callV hC 14 [_, _] _ dX13_branch_209 q2167 q2169 qs121 q327 q2170 np_X13 rfl OB_14 pd_X13_use (Nat.le_of_ble_eq_true rfl) hd1 (okX13_use l E A (d - 1)  (by omega)  e184 am181) (hc_rb rfl) rfl (fun am185 ha186 => ?_)
                refine hr_istore hC dX13_branch_212 (by decide) ?_
                refine hr_aload_n hC dX13_branch_214 rfl ?_
                refine hr_gO 13 hC F14_5 rfl dX13_branch_215 q800 ?_
                refine hr_iload_n hC dX13_branch_218 rfl ?_
                obtain ⟨v189, hv189, h⟩ := hl_ok h
                have J194 : ∀ w195 : Int32, (if x3 = 0 then 0 else 1) = w195 → hc_At hc_V0 E 8 X 227 [(2, .int x2), (7, .int r183.1)] [.int w195, .ref (E.2.1 13)] r183.2 am185 [] := by
                  intro w195 hw195
                  obtain rfl := hv189.trans hw195
                  refine hr_iload hC dX13_branch_227 rfl ?_
                  refine hr_iconst (v := 0) hC dX13_branch_229 rfl ?_
                  refine hr_iload_n hC dX13_branch_230 rfl ?_
                  obtain ⟨r190, e191, h⟩ := hx_bind h
                  refine hs_callV hC 13 [_, _, _, _] _ dX13_branch_231 q1987 q1988 q1989 q326 q1990 np_X12 rfl OB_13 pd_X12_branch (Nat.le_of_ble_eq_true rfl) hd1 (okX12_branch l E A (d - 1)  (by omega)  e191 am185) (hc_rb rfl) rfl (fun am192 ha193 => ?_)
                  obtain rfl := Option.some.inj h
                  exact hr_sub _ rfl (J19 am192)
                refine hr_if_eq (x := _) hC 226 dX13_branch_219 (by decide) (fun c196 => ?_) (fun c196 => ?_)
                · refine hr_iconst (v := 0) hC dX13_branch_226 rfl ?_
                  exact hr_sub _ rfl (J194 _ (by first | (rw [if_pos c196]; done) | (simp only [if_pos c196]; done) | rfl))
                · refine hr_iconst (v := 1) hC dX13_branch_222 rfl ?_
                  refine hr_goto hC 227 dX13_branch_223 (by decide) ?_
                  exact hr_sub _ rfl (J194 _ (by first | (rw [if_neg c196]; done) | (simp only [if_neg c196]; done) | rfl))
              · rw [if_pos c178] at h
                refine hr_aload_n hC dX13_branch_187 rfl ?_
                refine hr_iload hC dX13_branch_188 rfl ?_
                refine hr_iload_n hC dX13_branch_190 rfl ?_
                refine hr_iload_n hC dX13_branch_191 rfl ?_
                refine hr_iload hC dX13_branch_192 rfl ?_
                obtain ⟨r197, e198, h⟩ := hx_bind h
                refine hs_callV hC 14 [_, _, _, _] _ dX13_branch_194 q2278 q2280 qs144 q327 q2281 np_X13 rfl OB_14 pd_X13_compared (Nat.le_of_ble_eq_true rfl) hd1 (IH _ _ _ _ e198 am) (hc_rb rfl) rfl (fun am199 ha200 => ?_)
                refine hr_goto hC 234 dX13_branch_197 (by decide) ?_
                obtain rfl := Option.some.inj h
                exact hr_sub _ rfl (J19 am199)
            · rw [if_neg c168] at h
              refine hr_aload_n hC dX13_branch_154 rfl ?_
              refine hr_gO 6 hC F14_0 rfl dX13_branch_155 q795 ?_
              refine hr_iload_n hC dX13_branch_158 rfl ?_
              obtain ⟨r201, e202, h⟩ := hx_bind h
              refine hs_callV0 hC 6 [_] _ dX13_branch_159 q2099 q1586 q1587 q320 q1588 np_X6 rfl OB_6 pd_X6_value (Nat.le_of_ble_eq_true rfl) hd1 (okX6_value l E A (d - 1)  (by omega)  e202 am) rfl ?_
              refine hr_bipush (v := 7) hC dX13_branch_162 rfl ?_
              refine hr_icmp_ne (x := _) hC 200 dX13_branch_164 (by decide) (fun c206 => ?_) (fun c206 => ?_)
              · rw [if_neg c206] at h
                refine hr_aload_n hC dX13_branch_200 rfl ?_
                refine hr_aload_n hC dX13_branch_201 rfl ?_
                refine hr_iload_n hC dX13_branch_202 rfl ?_
                refine hr_iload hC dX13_branch_203 rfl ?_
                obtain ⟨r207, e208, h⟩ := hx_bind h
                refine hs_callV hC 14 [_, _] _ dX13_branch_205 q2101 q2103 qs112 q327 q2104 np_X13 rfl OB_14 pd_X13_value (Nat.le_of_ble_eq_true rfl) hd1 (IH _ _ _ _ e208 am) (hc_rb rfl) rfl (fun am209 ha210 => ?_)
                refine hr_iconst (v := 5) hC dX13_branch_208 rfl ?_
                obtain ⟨r211, e212, h⟩ := hx_bind h
                refine hs_callV hC 14 [_, _] _ dX13_branch_209 q2167 q2169 qs121 q327 q2170 np_X13 rfl OB_14 pd_X13_use (Nat.le_of_ble_eq_true rfl) hd1 (okX13_use l E A (d - 1)  (by omega)  e212 am209) (hc_rb rfl) rfl (fun am213 ha214 => ?_)
                refine hr_istore hC dX13_branch_212 (by decide) ?_
                refine hr_aload_n hC dX13_branch_214 rfl ?_
                refine hr_gO 13 hC F14_5 rfl dX13_branch_215 q800 ?_
                refine hr_iload_n hC dX13_branch_218 rfl ?_
                obtain ⟨v217, hv217, h⟩ := hl_ok h
                have J222 : ∀ w223 : Int32, (if x3 = 0 then 0 else 1) = w223 → hc_At hc_V0 E 8 X 227 [(2, .int x2), (7, .int r211.1)] [.int w223, .ref (E.2.1 13)] r211.2 am213 [] := by
                  intro w223 hw223
                  obtain rfl := hv217.trans hw223
                  refine hr_iload hC dX13_branch_227 rfl ?_
                  refine hr_iconst (v := 0) hC dX13_branch_229 rfl ?_
                  refine hr_iload_n hC dX13_branch_230 rfl ?_
                  obtain ⟨r218, e219, h⟩ := hx_bind h
                  refine hs_callV hC 13 [_, _, _, _] _ dX13_branch_231 q1987 q1988 q1989 q326 q1990 np_X12 rfl OB_13 pd_X12_branch (Nat.le_of_ble_eq_true rfl) hd1 (okX12_branch l E A (d - 1)  (by omega)  e219 am213) (hc_rb rfl) rfl (fun am220 ha221 => ?_)
                  obtain rfl := Option.some.inj h
                  exact hr_sub _ rfl (J19 am220)
                refine hr_if_eq (x := _) hC 226 dX13_branch_219 (by decide) (fun c224 => ?_) (fun c224 => ?_)
                · refine hr_iconst (v := 0) hC dX13_branch_226 rfl ?_
                  exact hr_sub _ rfl (J222 _ (by first | (rw [if_pos c224]; done) | (simp only [if_pos c224]; done) | rfl))
                · refine hr_iconst (v := 1) hC dX13_branch_222 rfl ?_
                  refine hr_goto hC 227 dX13_branch_223 (by decide) ?_
                  exact hr_sub _ rfl (J222 _ (by first | (rw [if_neg c224]; done) | (simp only [if_neg c224]; done) | rfl))
              · rw [if_pos c206] at h
                refine hr_aload_n hC dX13_branch_167 rfl ?_
                refine hr_gO 6 hC F14_0 rfl dX13_branch_168 q795 ?_
                refine hr_aload_n hC dX13_branch_171 rfl ?_
                refine hr_gO 6 hC F14_0 rfl dX13_branch_172 q795 ?_
                refine hr_iload hC dX13_branch_175 rfl ?_
                obtain ⟨r225, e226, h⟩ := hx_bind h
                refine hs_callV0 hC 6 [_] _ dX13_branch_177 q2068 q1603 q1604 q320 q1605 np_X6 rfl OB_6 pd_X6_next (Nat.le_of_ble_eq_true rfl) hd1 (okX6_next l E A (d - 1)  (by omega)  e226 am) rfl ?_
                obtain ⟨r229, e230, h⟩ := hx_bind h
                refine hs_callV0 hC 6 [_] _ dX13_branch_180 q2068 q1603 q1604 q320 q1605 np_X6 rfl OB_6 pd_X6_next (Nat.le_of_ble_eq_true rfl) hd1 (okX6_next l E A (d - 1)  (by omega)  e230 am) rfl ?_
                refine hr_iconst (v := (-1)) hC dX13_branch_183 rfl ?_
                refine hr_icmp_ne (x := _) hC 200 dX13_branch_184 (by decide) (fun c234 => ?_) (fun c234 => ?_)
                · rw [if_neg c234] at h
                  refine hr_aload_n hC dX13_branch_200 rfl ?_
                  refine hr_aload_n hC dX13_branch_201 rfl ?_
                  refine hr_iload_n hC dX13_branch_202 rfl ?_
                  refine hr_iload hC dX13_branch_203 rfl ?_
                  obtain ⟨r235, e236, h⟩ := hx_bind h
                  refine hs_callV hC 14 [_, _] _ dX13_branch_205 q2101 q2103 qs112 q327 q2104 np_X13 rfl OB_14 pd_X13_value (Nat.le_of_ble_eq_true rfl) hd1 (IH _ _ _ _ e236 am) (hc_rb rfl) rfl (fun am237 ha238 => ?_)
                  refine hr_iconst (v := 5) hC dX13_branch_208 rfl ?_
                  obtain ⟨r239, e240, h⟩ := hx_bind h
                  refine hs_callV hC 14 [_, _] _ dX13_branch_209 q2167 q2169 qs121 q327 q2170 np_X13 rfl OB_14 pd_X13_use (Nat.le_of_ble_eq_true rfl) hd1 (okX13_use l E A (d - 1)  (by omega)  e240 am237) (hc_rb rfl) rfl (fun am241 ha242 => ?_)
                  refine hr_istore hC dX13_branch_212 (by decide) ?_
                  refine hr_aload_n hC dX13_branch_214 rfl ?_
                  refine hr_gO 13 hC F14_5 rfl dX13_branch_215 q800 ?_
                  refine hr_iload_n hC dX13_branch_218 rfl ?_
                  obtain ⟨v245, hv245, h⟩ := hl_ok h
                  have J250 : ∀ w251 : Int32, (if x3 = 0 then 0 else 1) = w251 → hc_At hc_V0 E 8 X 227 [(2, .int x2), (7, .int r239.1)] [.int w251, .ref (E.2.1 13)] r239.2 am241 [] := by
                    intro w251 hw251
                    obtain rfl := hv245.trans hw251
                    refine hr_iload hC dX13_branch_227 rfl ?_
                    refine hr_iconst (v := 0) hC dX13_branch_229 rfl ?_
                    refine hr_iload_n hC dX13_branch_230 rfl ?_
                    obtain ⟨r246, e247, h⟩ := hx_bind h
                    refine hs_callV hC 13 [_, _, _, _] _ dX13_branch_231 q1987 q1988 q1989 q326 q1990 np_X12 rfl OB_13 pd_X12_branch (Nat.le_of_ble_eq_true rfl) hd1 (okX12_branch l E A (d - 1)  (by omega)  e247 am241) (hc_rb rfl) rfl (fun am248 ha249 => ?_)
                    obtain rfl := Option.some.inj h
                    exact hr_sub _ rfl (J19 am248)
                  refine hr_if_eq (x := _) hC 226 dX13_branch_219 (by decide) (fun c252 => ?_) (fun c252 => ?_)
                  · refine hr_iconst (v := 0) hC dX13_branch_226 rfl ?_
                    exact hr_sub _ rfl (J250 _ (by first | (rw [if_pos c252]; done) | (simp only [if_pos c252]; done) | rfl))
                  · refine hr_iconst (v := 1) hC dX13_branch_222 rfl ?_
                    refine hr_goto hC 227 dX13_branch_223 (by decide) ?_
                    exact hr_sub _ rfl (J250 _ (by first | (rw [if_neg c252]; done) | (simp only [if_neg c252]; done) | rfl))
                · rw [if_pos c234] at h
                  refine hr_aload_n hC dX13_branch_187 rfl ?_
                  refine hr_iload hC dX13_branch_188 rfl ?_
                  refine hr_iload_n hC dX13_branch_190 rfl ?_
                  refine hr_iload_n hC dX13_branch_191 rfl ?_
                  refine hr_iload hC dX13_branch_192 rfl ?_
                  obtain ⟨r253, e254, h⟩ := hx_bind h
                  refine hs_callV hC 14 [_, _, _, _] _ dX13_branch_194 q2278 q2280 qs144 q327 q2281 np_X13 rfl OB_14 pd_X13_compared (Nat.le_of_ble_eq_true rfl) hd1 (IH _ _ _ _ e254 am) (hc_rb rfl) rfl (fun am255 ha256 => ?_)
                  refine hr_goto hC 234 dX13_branch_197 (by decide) ?_
                  obtain rfl := Option.some.inj h
                  exact hr_sub _ rfl (J19 am255)
        · rw [if_neg c142] at h
          refine hr_aload_n hC dX13_branch_120 rfl ?_
          refine hr_iload_n hC dX13_branch_121 rfl ?_
          refine hr_iload hC dX13_branch_122 rfl ?_
          refine hr_iload_n hC dX13_branch_124 rfl ?_
          refine hr_iload_n hC dX13_branch_125 rfl ?_
          refine hr_iload hC dX13_branch_126 rfl ?_
          obtain ⟨r257, e258, h⟩ := hx_bind h
          refine hs_callV hC 14 [_, _, _, _, _] _ dX13_branch_128 q2274 q2276 qs143 q327 q2277 np_X13 rfl OB_14 pd_X13_decide (Nat.le_of_ble_eq_true rfl) hd1 (IH _ _ _ _ e258 am) (hc_rb rfl) rfl (fun am259 ha260 => ?_)
          refine hr_goto hC 234 dX13_branch_131 (by decide) ?_
          obtain rfl := Option.some.inj h
          exact hr_sub _ rfl (J19 am259)
    · rw [if_pos c16] at h
      refine hr_aload_n hC dX13_branch_67 rfl ?_
      refine hr_gO 6 hC F14_0 rfl dX13_branch_68 q795 ?_
      refine hr_iload_n hC dX13_branch_71 rfl ?_
      obtain ⟨r261, e262, h⟩ := hx_bind h
      refine hs_callV0 hC 6 [_] _ dX13_branch_72 q1978 q1639 q1640 q320 q1641 np_X6 rfl OB_6 pd_X6_op (Nat.le_of_ble_eq_true rfl) hd1 (okX6_op l E A (d - 1)  (by omega)  e262 am) rfl ?_
      refine hr_bipush (v := 33) hC dX13_branch_75 rfl ?_
      refine hr_icmp_ne (x := _) hC 101 dX13_branch_77 (by decide) (fun c266 => ?_) (fun c266 => ?_)
      · rw [if_neg c266] at h
        refine hr_iload hC dX13_branch_101 rfl ?_
        refine hr_bipush (v := 32) hC dX13_branch_103 rfl ?_
        refine hr_icmp_ne (x := _) hC 134 dX13_branch_105 (by decide) (fun c268 => ?_) (fun c268 => ?_)
        · rw [if_neg c268] at h
          refine hr_iload hC dX13_branch_134 rfl ?_
          refine hr_bipush (v := 32) hC dX13_branch_136 rfl ?_
          refine hr_icmp_ne (x := _) hC 200 dX13_branch_138 (by decide) (fun c270 => ?_) (fun c270 => ?_)
          · rw [if_neg c270] at h
            refine hr_aload_n hC dX13_branch_200 rfl ?_
            refine hr_aload_n hC dX13_branch_201 rfl ?_
            refine hr_iload_n hC dX13_branch_202 rfl ?_
            refine hr_iload hC dX13_branch_203 rfl ?_
            obtain ⟨r271, e272, h⟩ := hx_bind h
            refine hs_callV hC 14 [_, _] _ dX13_branch_205 q2101 q2103 qs112 q327 q2104 np_X13 rfl OB_14 pd_X13_value (Nat.le_of_ble_eq_true rfl) hd1 (IH _ _ _ _ e272 am) (hc_rb rfl) rfl (fun am273 ha274 => ?_)
            refine hr_iconst (v := 5) hC dX13_branch_208 rfl ?_
            obtain ⟨r275, e276, h⟩ := hx_bind h
            refine hs_callV hC 14 [_, _] _ dX13_branch_209 q2167 q2169 qs121 q327 q2170 np_X13 rfl OB_14 pd_X13_use (Nat.le_of_ble_eq_true rfl) hd1 (okX13_use l E A (d - 1)  (by omega)  e276 am273) (hc_rb rfl) rfl (fun am277 ha278 => ?_)
            refine hr_istore hC dX13_branch_212 (by decide) ?_
            refine hr_aload_n hC dX13_branch_214 rfl ?_
            refine hr_gO 13 hC F14_5 rfl dX13_branch_215 q800 ?_
            refine hr_iload_n hC dX13_branch_218 rfl ?_
            obtain ⟨v281, hv281, h⟩ := hl_ok h
            have J286 : ∀ w287 : Int32, (if x3 = 0 then 0 else 1) = w287 → hc_At hc_V0 E 8 X 227 [(2, .int x2), (7, .int r275.1)] [.int w287, .ref (E.2.1 13)] r275.2 am277 [] := by
              intro w287 hw287
              obtain rfl := hv281.trans hw287
              refine hr_iload hC dX13_branch_227 rfl ?_
              refine hr_iconst (v := 0) hC dX13_branch_229 rfl ?_
              refine hr_iload_n hC dX13_branch_230 rfl ?_
              obtain ⟨r282, e283, h⟩ := hx_bind h
              refine hs_callV hC 13 [_, _, _, _] _ dX13_branch_231 q1987 q1988 q1989 q326 q1990 np_X12 rfl OB_13 pd_X12_branch (Nat.le_of_ble_eq_true rfl) hd1 (okX12_branch l E A (d - 1)  (by omega)  e283 am277) (hc_rb rfl) rfl (fun am284 ha285 => ?_)
              obtain rfl := Option.some.inj h
              exact hr_sub _ rfl (J19 am284)
            refine hr_if_eq (x := _) hC 226 dX13_branch_219 (by decide) (fun c288 => ?_) (fun c288 => ?_)
            · refine hr_iconst (v := 0) hC dX13_branch_226 rfl ?_
              exact hr_sub _ rfl (J286 _ (by first | (rw [if_pos c288]; done) | (simp only [if_pos c288]; done) | rfl))
            · refine hr_iconst (v := 1) hC dX13_branch_222 rfl ?_
              refine hr_goto hC 227 dX13_branch_223 (by decide) ?_
              exact hr_sub _ rfl (J286 _ (by first | (rw [if_neg c288]; done) | (simp only [if_neg c288]; done) | rfl))
          · rw [if_pos c270] at h
            refine hr_aload_n hC dX13_branch_141 rfl ?_
            refine hr_gO 6 hC F14_0 rfl dX13_branch_142 q795 ?_
            refine hr_iload_n hC dX13_branch_145 rfl ?_
            obtain ⟨r289, e290, h⟩ := hx_bind h
            refine hs_callV0 hC 6 [_] _ dX13_branch_146 q2099 q1586 q1587 q320 q1588 np_X6 rfl OB_6 pd_X6_value (Nat.le_of_ble_eq_true rfl) hd1 (okX6_value l E A (d - 1)  (by omega)  e290 am) rfl ?_
            refine hr_bipush (v := 6) hC dX13_branch_149 rfl ?_
            refine hr_icmp_eq (x := _) hC 167 dX13_branch_151 (by decide) (fun c294 => ?_) (fun c294 => ?_)
            · rw [if_pos c294] at h
              refine hr_aload_n hC dX13_branch_167 rfl ?_
              refine hr_gO 6 hC F14_0 rfl dX13_branch_168 q795 ?_
              refine hr_aload_n hC dX13_branch_171 rfl ?_
              refine hr_gO 6 hC F14_0 rfl dX13_branch_172 q795 ?_
              refine hr_iload hC dX13_branch_175 rfl ?_
              obtain ⟨r295, e296, h⟩ := hx_bind h
              refine hs_callV0 hC 6 [_] _ dX13_branch_177 q2068 q1603 q1604 q320 q1605 np_X6 rfl OB_6 pd_X6_next (Nat.le_of_ble_eq_true rfl) hd1 (okX6_next l E A (d - 1)  (by omega)  e296 am) rfl ?_
              obtain ⟨r299, e300, h⟩ := hx_bind h
              refine hs_callV0 hC 6 [_] _ dX13_branch_180 q2068 q1603 q1604 q320 q1605 np_X6 rfl OB_6 pd_X6_next (Nat.le_of_ble_eq_true rfl) hd1 (okX6_next l E A (d - 1)  (by omega)  e300 am) rfl ?_
              refine hr_iconst (v := (-1)) hC dX13_branch_183 rfl ?_
              refine hr_icmp_ne (x := _) hC 200 dX13_branch_184 (by decide) (fun c304 => ?_) (fun c304 => ?_)
              · rw [if_neg c304] at h
                refine hr_aload_n hC dX13_branch_200 rfl ?_
                refine hr_aload_n hC dX13_branch_201 rfl ?_
                refine hr_iload_n hC dX13_branch_202 rfl ?_
                refine hr_iload hC dX13_branch_203 rfl ?_
                obtain ⟨r305, e306, h⟩ := hx_bind h
                refine hs_callV hC 14 [_, _] _ dX13_branch_205 q2101 q2103 qs112 q327 q2104 np_X13 rfl OB_14 pd_X13_value (Nat.le_of_ble_eq_true rfl) hd1 (IH _ _ _ _ e306 am) (hc_rb rfl) rfl (fun am307 ha308 => ?_)
                refine hr_iconst (v := 5) hC dX13_branch_208 rfl ?_
                obtain ⟨r309, e310, h⟩ := hx_bind h
                refine hs_callV hC 14 [_, _] _ dX13_branch_209 q2167 q2169 qs121 q327 q2170 np_X13 rfl OB_14 pd_X13_use (Nat.le_of_ble_eq_true rfl) hd1 (okX13_use l E A (d - 1)  (by omega)  e310 am307) (hc_rb rfl) rfl (fun am311 ha312 => ?_)
                refine hr_istore hC dX13_branch_212 (by decide) ?_
                refine hr_aload_n hC dX13_branch_214 rfl ?_
                refine hr_gO 13 hC F14_5 rfl dX13_branch_215 q800 ?_
                refine hr_iload_n hC dX13_branch_218 rfl ?_
                obtain ⟨v315, hv315, h⟩ := hl_ok h
                have J320 : ∀ w321 : Int32, (if x3 = 0 then 0 else 1) = w321 → hc_At hc_V0 E 8 X 227 [(2, .int x2), (7, .int r309.1)] [.int w321, .ref (E.2.1 13)] r309.2 am311 [] := by
                  intro w321 hw321
                  obtain rfl := hv315.trans hw321
                  refine hr_iload hC dX13_branch_227 rfl ?_
                  refine hr_iconst (v := 0) hC dX13_branch_229 rfl ?_
                  refine hr_iload_n hC dX13_branch_230 rfl ?_
                  obtain ⟨r316, e317, h⟩ := hx_bind h
                  refine hs_callV hC 13 [_, _, _, _] _ dX13_branch_231 q1987 q1988 q1989 q326 q1990 np_X12 rfl OB_13 pd_X12_branch (Nat.le_of_ble_eq_true rfl) hd1 (okX12_branch l E A (d - 1)  (by omega)  e317 am311) (hc_rb rfl) rfl (fun am318 ha319 => ?_)
                  obtain rfl := Option.some.inj h
                  exact hr_sub _ rfl (J19 am318)
                refine hr_if_eq (x := _) hC 226 dX13_branch_219 (by decide) (fun c322 => ?_) (fun c322 => ?_)
                · refine hr_iconst (v := 0) hC dX13_branch_226 rfl ?_
                  exact hr_sub _ rfl (J320 _ (by first | (rw [if_pos c322]; done) | (simp only [if_pos c322]; done) | rfl))
                · refine hr_iconst (v := 1) hC dX13_branch_222 rfl ?_
                  refine hr_goto hC 227 dX13_branch_223 (by decide) ?_
                  exact hr_sub _ rfl (J320 _ (by first | (rw [if_neg c322]; done) | (simp only [if_neg c322]; done) | rfl))
              · rw [if_pos c304] at h
                refine hr_aload_n hC dX13_branch_187 rfl ?_
                refine hr_iload hC dX13_branch_188 rfl ?_
                refine hr_iload_n hC dX13_branch_190 rfl ?_
                refine hr_iload_n hC dX13_branch_191 rfl ?_
                refine hr_iload hC dX13_branch_192 rfl ?_
                obtain ⟨r323, e324, h⟩ := hx_bind h
                refine hs_callV hC 14 [_, _, _, _] _ dX13_branch_194 q2278 q2280 qs144 q327 q2281 np_X13 rfl OB_14 pd_X13_compared (Nat.le_of_ble_eq_true rfl) hd1 (IH _ _ _ _ e324 am) (hc_rb rfl) rfl (fun am325 ha326 => ?_)
                refine hr_goto hC 234 dX13_branch_197 (by decide) ?_
                obtain rfl := Option.some.inj h
                exact hr_sub _ rfl (J19 am325)
            · rw [if_neg c294] at h
              refine hr_aload_n hC dX13_branch_154 rfl ?_
              refine hr_gO 6 hC F14_0 rfl dX13_branch_155 q795 ?_
              refine hr_iload_n hC dX13_branch_158 rfl ?_
              obtain ⟨r327, e328, h⟩ := hx_bind h
              refine hs_callV0 hC 6 [_] _ dX13_branch_159 q2099 q1586 q1587 q320 q1588 np_X6 rfl OB_6 pd_X6_value (Nat.le_of_ble_eq_true rfl) hd1 (okX6_value l E A (d - 1)  (by omega)  e328 am) rfl ?_
              refine hr_bipush (v := 7) hC dX13_branch_162 rfl ?_
              refine hr_icmp_ne (x := _) hC 200 dX13_branch_164 (by decide) (fun c332 => ?_) (fun c332 => ?_)
              · rw [if_neg c332] at h
                refine hr_aload_n hC dX13_branch_200 rfl ?_
                refine hr_aload_n hC dX13_branch_201 rfl ?_
                refine hr_iload_n hC dX13_branch_202 rfl ?_
                refine hr_iload hC dX13_branch_203 rfl ?_
                obtain ⟨r333, e334, h⟩ := hx_bind h
                refine hs_callV hC 14 [_, _] _ dX13_branch_205 q2101 q2103 qs112 q327 q2104 np_X13 rfl OB_14 pd_X13_value (Nat.le_of_ble_eq_true rfl) hd1 (IH _ _ _ _ e334 am) (hc_rb rfl) rfl (fun am335 ha336 => ?_)
                refine hr_iconst (v := 5) hC dX13_branch_208 rfl ?_
                obtain ⟨r337, e338, h⟩ := hx_bind h
                refine hs_callV hC 14 [_, _] _ dX13_branch_209 q2167 q2169 qs121 q327 q2170 np_X13 rfl OB_14 pd_X13_use (Nat.le_of_ble_eq_true rfl) hd1 (okX13_use l E A (d - 1)  (by omega)  e338 am335) (hc_rb rfl) rfl (fun am339 ha340 => ?_)
                refine hr_istore hC dX13_branch_212 (by decide) ?_
                refine hr_aload_n hC dX13_branch_214 rfl ?_
                refine hr_gO 13 hC F14_5 rfl dX13_branch_215 q800 ?_
                refine hr_iload_n hC dX13_branch_218 rfl ?_
                obtain ⟨v343, hv343, h⟩ := hl_ok h
                have J348 : ∀ w349 : Int32, (if x3 = 0 then 0 else 1) = w349 → hc_At hc_V0 E 8 X 227 [(2, .int x2), (7, .int r337.1)] [.int w349, .ref (E.2.1 13)] r337.2 am339 [] := by
                  intro w349 hw349
                  obtain rfl := hv343.trans hw349
                  refine hr_iload hC dX13_branch_227 rfl ?_
                  refine hr_iconst (v := 0) hC dX13_branch_229 rfl ?_
                  refine hr_iload_n hC dX13_branch_230 rfl ?_
                  obtain ⟨r344, e345, h⟩ := hx_bind h
                  refine hs_callV hC 13 [_, _, _, _] _ dX13_branch_231 q1987 q1988 q1989 q326 q1990 np_X12 rfl OB_13 pd_X12_branch (Nat.le_of_ble_eq_true rfl) hd1 (okX12_branch l E A (d - 1)  (by omega)  e345 am339) (hc_rb rfl) rfl (fun am346 ha347 => ?_)
                  obtain rfl := Option.some.inj h
                  exact hr_sub _ rfl (J19 am346)
                refine hr_if_eq (x := _) hC 226 dX13_branch_219 (by decide) (fun c350 => ?_) (fun c350 => ?_)
                · refine hr_iconst (v := 0) hC dX13_branch_226 rfl ?_
                  exact hr_sub _ rfl (J348 _ (by first | (rw [if_pos c350]; done) | (simp only [if_pos c350]; done) | rfl))
                · refine hr_iconst (v := 1) hC dX13_branch_222 rfl ?_
                  refine hr_goto hC 227 dX13_branch_223 (by decide) ?_
                  exact hr_sub _ rfl (J348 _ (by first | (rw [if_neg c350]; done) | (simp only [if_neg c350]; done) | rfl))
              · rw [if_pos c332] at h
                refine hr_aload_n hC dX13_branch_167 rfl ?_
                refine hr_gO 6 hC F14_0 rfl dX13_branch_168 q795 ?_
                refine hr_aload_n hC dX13_branch_171 rfl ?_
                refine hr_gO 6 hC F14_0 rfl dX13_branch_172 q795 ?_
                refine hr_iload hC dX13_branch_175 rfl ?_
                obtain ⟨r351, e352, h⟩ := hx_bind h
                refine hs_callV0 hC 6 [_] _ dX13_branch_177 q2068 q1603 q1604 q320 q1605 np_X6 rfl OB_6 pd_X6_next (Nat.le_of_ble_eq_true rfl) hd1 (okX6_next l E A (d - 1)  (by omega)  e352 am) rfl ?_
                obtain ⟨r355, e356, h⟩ := hx_bind h
                refine hs_callV0 hC 6 [_] _ dX13_branch_180 q2068 q1603 q1604 q320 q1605 np_X6 rfl OB_6 pd_X6_next (Nat.le_of_ble_eq_true rfl) hd1 (okX6_next l E A (d - 1)  (by omega)  e356 am) rfl ?_
                refine hr_iconst (v := (-1)) hC dX13_branch_183 rfl ?_
                refine hr_icmp_ne (x := _) hC 200 dX13_branch_184 (by decide) (fun c360 => ?_) (fun c360 => ?_)
                · rw [if_neg c360] at h
                  refine hr_aload_n hC dX13_branch_200 rfl ?_
                  refine hr_aload_n hC dX13_branch_201 rfl ?_
                  refine hr_iload_n hC dX13_branch_202 rfl ?_
                  refine hr_iload hC dX13_branch_203 rfl ?_
                  obtain ⟨r361, e362, h⟩ := hx_bind h
                  refine hs_callV hC 14 [_, _] _ dX13_branch_205 q2101 q2103 qs112 q327 q2104 np_X13 rfl OB_14 pd_X13_value (Nat.le_of_ble_eq_true rfl) hd1 (IH _ _ _ _ e362 am) (hc_rb rfl) rfl (fun am363 ha364 => ?_)
                  refine hr_iconst (v := 5) hC dX13_branch_208 rfl ?_
                  obtain ⟨r365, e366, h⟩ := hx_bind h
                  refine hs_callV hC 14 [_, _] _ dX13_branch_209 q2167 q2169 qs121 q327 q2170 np_X13 rfl OB_14 pd_X13_use (Nat.le_of_ble_eq_true rfl) hd1 (okX13_use l E A (d - 1)  (by omega)  e366 am363) (hc_rb rfl) rfl (fun am367 ha368 => ?_)
                  refine hr_istore hC dX13_branch_212 (by decide) ?_
                  refine hr_aload_n hC dX13_branch_214 rfl ?_
                  refine hr_gO 13 hC F14_5 rfl dX13_branch_215 q800 ?_
                  refine hr_iload_n hC dX13_branch_218 rfl ?_
                  obtain ⟨v371, hv371, h⟩ := hl_ok h
                  have J376 : ∀ w377 : Int32, (if x3 = 0 then 0 else 1) = w377 → hc_At hc_V0 E 8 X 227 [(2, .int x2), (7, .int r365.1)] [.int w377, .ref (E.2.1 13)] r365.2 am367 [] := by
                    intro w377 hw377
                    obtain rfl := hv371.trans hw377
                    refine hr_iload hC dX13_branch_227 rfl ?_
                    refine hr_iconst (v := 0) hC dX13_branch_229 rfl ?_
                    refine hr_iload_n hC dX13_branch_230 rfl ?_
                    obtain ⟨r372, e373, h⟩ := hx_bind h
                    refine hs_callV hC 13 [_, _, _, _] _ dX13_branch_231 q1987 q1988 q1989 q326 q1990 np_X12 rfl OB_13 pd_X12_branch (Nat.le_of_ble_eq_true rfl) hd1 (okX12_branch l E A (d - 1)  (by omega)  e373 am367) (hc_rb rfl) rfl (fun am374 ha375 => ?_)
                    obtain rfl := Option.some.inj h
                    exact hr_sub _ rfl (J19 am374)
                  refine hr_if_eq (x := _) hC 226 dX13_branch_219 (by decide) (fun c378 => ?_) (fun c378 => ?_)
                  · refine hr_iconst (v := 0) hC dX13_branch_226 rfl ?_
                    exact hr_sub _ rfl (J376 _ (by first | (rw [if_pos c378]; done) | (simp only [if_pos c378]; done) | rfl))
                  · refine hr_iconst (v := 1) hC dX13_branch_222 rfl ?_
                    refine hr_goto hC 227 dX13_branch_223 (by decide) ?_
                    exact hr_sub _ rfl (J376 _ (by first | (rw [if_neg c378]; done) | (simp only [if_neg c378]; done) | rfl))
                · rw [if_pos c360] at h
                  refine hr_aload_n hC dX13_branch_187 rfl ?_
                  refine hr_iload hC dX13_branch_188 rfl ?_
                  refine hr_iload_n hC dX13_branch_190 rfl ?_
                  refine hr_iload_n hC dX13_branch_191 rfl ?_
                  refine hr_iload hC dX13_branch_192 rfl ?_
                  obtain ⟨r379, e380, h⟩ := hx_bind h
                  refine hs_callV hC 14 [_, _, _, _] _ dX13_branch_194 q2278 q2280 qs144 q327 q2281 np_X13 rfl OB_14 pd_X13_compared (Nat.le_of_ble_eq_true rfl) hd1 (IH _ _ _ _ e380 am) (hc_rb rfl) rfl (fun am381 ha382 => ?_)
                  refine hr_goto hC 234 dX13_branch_197 (by decide) ?_
                  obtain rfl := Option.some.inj h
                  exact hr_sub _ rfl (J19 am381)
        · rw [if_pos c268] at h
          refine hr_aload_n hC dX13_branch_108 rfl ?_
          refine hr_gO 6 hC F14_0 rfl dX13_branch_109 q795 ?_
          refine hr_iload_n hC dX13_branch_112 rfl ?_
          obtain ⟨r383, e384, h⟩ := hx_bind h
          refine hs_callV0 hC 6 [_] _ dX13_branch_113 q2099 q1586 q1587 q320 q1588 np_X6 rfl OB_6 pd_X6_value (Nat.le_of_ble_eq_true rfl) hd1 (okX6_value l E A (d - 1)  (by omega)  e384 am) rfl ?_
          refine hr_iconst (v := 3) hC dX13_branch_116 rfl ?_
          refine hr_icmp_ge (x := _) hC 134 dX13_branch_117 (by decide) (fun c388 => ?_) (fun c388 => ?_)
          · rw [if_pos c388] at h
            refine hr_iload hC dX13_branch_134 rfl ?_
            refine hr_bipush (v := 32) hC dX13_branch_136 rfl ?_
            refine hr_icmp_ne (x := _) hC 200 dX13_branch_138 (by decide) (fun c390 => ?_) (fun c390 => ?_)
            · rw [if_neg c390] at h
              refine hr_aload_n hC dX13_branch_200 rfl ?_
              refine hr_aload_n hC dX13_branch_201 rfl ?_
              refine hr_iload_n hC dX13_branch_202 rfl ?_
              refine hr_iload hC dX13_branch_203 rfl ?_
              obtain ⟨r391, e392, h⟩ := hx_bind h
              refine hs_callV hC 14 [_, _] _ dX13_branch_205 q2101 q2103 qs112 q327 q2104 np_X13 rfl OB_14 pd_X13_value (Nat.le_of_ble_eq_true rfl) hd1 (IH _ _ _ _ e392 am) (hc_rb rfl) rfl (fun am393 ha394 => ?_)
              refine hr_iconst (v := 5) hC dX13_branch_208 rfl ?_
              obtain ⟨r395, e396, h⟩ := hx_bind h
              refine hs_callV hC 14 [_, _] _ dX13_branch_209 q2167 q2169 qs121 q327 q2170 np_X13 rfl OB_14 pd_X13_use (Nat.le_of_ble_eq_true rfl) hd1 (okX13_use l E A (d - 1)  (by omega)  e396 am393) (hc_rb rfl) rfl (fun am397 ha398 => ?_)
              refine hr_istore hC dX13_branch_212 (by decide) ?_
              refine hr_aload_n hC dX13_branch_214 rfl ?_
              refine hr_gO 13 hC F14_5 rfl dX13_branch_215 q800 ?_
              refine hr_iload_n hC dX13_branch_218 rfl ?_
              obtain ⟨v401, hv401, h⟩ := hl_ok h
              have J406 : ∀ w407 : Int32, (if x3 = 0 then 0 else 1) = w407 → hc_At hc_V0 E 8 X 227 [(2, .int x2), (7, .int r395.1)] [.int w407, .ref (E.2.1 13)] r395.2 am397 [] := by
                intro w407 hw407
                obtain rfl := hv401.trans hw407
                refine hr_iload hC dX13_branch_227 rfl ?_
                refine hr_iconst (v := 0) hC dX13_branch_229 rfl ?_
                refine hr_iload_n hC dX13_branch_230 rfl ?_
                obtain ⟨r402, e403, h⟩ := hx_bind h
                refine hs_callV hC 13 [_, _, _, _] _ dX13_branch_231 q1987 q1988 q1989 q326 q1990 np_X12 rfl OB_13 pd_X12_branch (Nat.le_of_ble_eq_true rfl) hd1 (okX12_branch l E A (d - 1)  (by omega)  e403 am397) (hc_rb rfl) rfl (fun am404 ha405 => ?_)
                obtain rfl := Option.some.inj h
                exact hr_sub _ rfl (J19 am404)
              refine hr_if_eq (x := _) hC 226 dX13_branch_219 (by decide) (fun c408 => ?_) (fun c408 => ?_)
              · refine hr_iconst (v := 0) hC dX13_branch_226 rfl ?_
                exact hr_sub _ rfl (J406 _ (by first | (rw [if_pos c408]; done) | (simp only [if_pos c408]; done) | rfl))
              · refine hr_iconst (v := 1) hC dX13_branch_222 rfl ?_
                refine hr_goto hC 227 dX13_branch_223 (by decide) ?_
                exact hr_sub _ rfl (J406 _ (by first | (rw [if_neg c408]; done) | (simp only [if_neg c408]; done) | rfl))
            · rw [if_pos c390] at h
              refine hr_aload_n hC dX13_branch_141 rfl ?_
              refine hr_gO 6 hC F14_0 rfl dX13_branch_142 q795 ?_
              refine hr_iload_n hC dX13_branch_145 rfl ?_
              obtain ⟨r409, e410, h⟩ := hx_bind h
              refine hs_callV0 hC 6 [_] _ dX13_branch_146 q2099 q1586 q1587 q320 q1588 np_X6 rfl OB_6 pd_X6_value (Nat.le_of_ble_eq_true rfl) hd1 (okX6_value l E A (d - 1)  (by omega)  e410 am) rfl ?_
              refine hr_bipush (v := 6) hC dX13_branch_149 rfl ?_
              refine hr_icmp_eq (x := _) hC 167 dX13_branch_151 (by decide) (fun c414 => ?_) (fun c414 => ?_)
              · rw [if_pos c414] at h
                refine hr_aload_n hC dX13_branch_167 rfl ?_
                refine hr_gO 6 hC F14_0 rfl dX13_branch_168 q795 ?_
                refine hr_aload_n hC dX13_branch_171 rfl ?_
                refine hr_gO 6 hC F14_0 rfl dX13_branch_172 q795 ?_
                refine hr_iload hC dX13_branch_175 rfl ?_
                obtain ⟨r415, e416, h⟩ := hx_bind h
                refine hs_callV0 hC 6 [_] _ dX13_branch_177 q2068 q1603 q1604 q320 q1605 np_X6 rfl OB_6 pd_X6_next (Nat.le_of_ble_eq_true rfl) hd1 (okX6_next l E A (d - 1)  (by omega)  e416 am) rfl ?_
                obtain ⟨r419, e420, h⟩ := hx_bind h
                refine hs_callV0 hC 6 [_] _ dX13_branch_180 q2068 q1603 q1604 q320 q1605 np_X6 rfl OB_6 pd_X6_next (Nat.le_of_ble_eq_true rfl) hd1 (okX6_next l E A (d - 1)  (by omega)  e420 am) rfl ?_
                refine hr_iconst (v := (-1)) hC dX13_branch_183 rfl ?_
                refine hr_icmp_ne (x := _) hC 200 dX13_branch_184 (by decide) (fun c424 => ?_) (fun c424 => ?_)
                · rw [if_neg c424] at h
                  refine hr_aload_n hC dX13_branch_200 rfl ?_
                  refine hr_aload_n hC dX13_branch_201 rfl ?_
                  refine hr_iload_n hC dX13_branch_202 rfl ?_
                  refine hr_iload hC dX13_branch_203 rfl ?_
                  obtain ⟨r425, e426, h⟩ := hx_bind h
                  refine hs_callV hC 14 [_, _] _ dX13_branch_205 q2101 q2103 qs112 q327 q2104 np_X13 rfl OB_14 pd_X13_value (Nat.le_of_ble_eq_true rfl) hd1 (IH _ _ _ _ e426 am) (hc_rb rfl) rfl (fun am427 ha428 => ?_)
                  refine hr_iconst (v := 5) hC dX13_branch_208 rfl ?_
                  obtain ⟨r429, e430, h⟩ := hx_bind h
                  refine hs_callV hC 14 [_, _] _ dX13_branch_209 q2167 q2169 qs121 q327 q2170 np_X13 rfl OB_14 pd_X13_use (Nat.le_of_ble_eq_true rfl) hd1 (okX13_use l E A (d - 1)  (by omega)  e430 am427) (hc_rb rfl) rfl (fun am431 ha432 => ?_)
                  refine hr_istore hC dX13_branch_212 (by decide) ?_
                  refine hr_aload_n hC dX13_branch_214 rfl ?_
                  refine hr_gO 13 hC F14_5 rfl dX13_branch_215 q800 ?_
                  refine hr_iload_n hC dX13_branch_218 rfl ?_
                  obtain ⟨v435, hv435, h⟩ := hl_ok h
                  have J440 : ∀ w441 : Int32, (if x3 = 0 then 0 else 1) = w441 → hc_At hc_V0 E 8 X 227 [(2, .int x2), (7, .int r429.1)] [.int w441, .ref (E.2.1 13)] r429.2 am431 [] := by
                    intro w441 hw441
                    obtain rfl := hv435.trans hw441
                    refine hr_iload hC dX13_branch_227 rfl ?_
                    refine hr_iconst (v := 0) hC dX13_branch_229 rfl ?_
                    refine hr_iload_n hC dX13_branch_230 rfl ?_
                    obtain ⟨r436, e437, h⟩ := hx_bind h
                    refine hs_callV hC 13 [_, _, _, _] _ dX13_branch_231 q1987 q1988 q1989 q326 q1990 np_X12 rfl OB_13 pd_X12_branch (Nat.le_of_ble_eq_true rfl) hd1 (okX12_branch l E A (d - 1)  (by omega)  e437 am431) (hc_rb rfl) rfl (fun am438 ha439 => ?_)
                    obtain rfl := Option.some.inj h
                    exact hr_sub _ rfl (J19 am438)
                  refine hr_if_eq (x := _) hC 226 dX13_branch_219 (by decide) (fun c442 => ?_) (fun c442 => ?_)
                  · refine hr_iconst (v := 0) hC dX13_branch_226 rfl ?_
                    exact hr_sub _ rfl (J440 _ (by first | (rw [if_pos c442]; done) | (simp only [if_pos c442]; done) | rfl))
                  · refine hr_iconst (v := 1) hC dX13_branch_222 rfl ?_
                    refine hr_goto hC 227 dX13_branch_223 (by decide) ?_
                    exact hr_sub _ rfl (J440 _ (by first | (rw [if_neg c442]; done) | (simp only [if_neg c442]; done) | rfl))
                · rw [if_pos c424] at h
                  refine hr_aload_n hC dX13_branch_187 rfl ?_
                  refine hr_iload hC dX13_branch_188 rfl ?_
                  refine hr_iload_n hC dX13_branch_190 rfl ?_
                  refine hr_iload_n hC dX13_branch_191 rfl ?_
                  refine hr_iload hC dX13_branch_192 rfl ?_
                  obtain ⟨r443, e444, h⟩ := hx_bind h
                  refine hs_callV hC 14 [_, _, _, _] _ dX13_branch_194 q2278 q2280 qs144 q327 q2281 np_X13 rfl OB_14 pd_X13_compared (Nat.le_of_ble_eq_true rfl) hd1 (IH _ _ _ _ e444 am) (hc_rb rfl) rfl (fun am445 ha446 => ?_)
                  refine hr_goto hC 234 dX13_branch_197 (by decide) ?_
                  obtain rfl := Option.some.inj h
                  exact hr_sub _ rfl (J19 am445)
              · rw [if_neg c414] at h
                refine hr_aload_n hC dX13_branch_154 rfl ?_
                refine hr_gO 6 hC F14_0 rfl dX13_branch_155 q795 ?_
                refine hr_iload_n hC dX13_branch_158 rfl ?_
                obtain ⟨r447, e448, h⟩ := hx_bind h
                refine hs_callV0 hC 6 [_] _ dX13_branch_159 q2099 q1586 q1587 q320 q1588 np_X6 rfl OB_6 pd_X6_value (Nat.le_of_ble_eq_true rfl) hd1 (okX6_value l E A (d - 1)  (by omega)  e448 am) rfl ?_
                refine hr_bipush (v := 7) hC dX13_branch_162 rfl ?_
                refine hr_icmp_ne (x := _) hC 200 dX13_branch_164 (by decide) (fun c452 => ?_) (fun c452 => ?_)
                · rw [if_neg c452] at h
                  refine hr_aload_n hC dX13_branch_200 rfl ?_
                  refine hr_aload_n hC dX13_branch_201 rfl ?_
                  refine hr_iload_n hC dX13_branch_202 rfl ?_
                  refine hr_iload hC dX13_branch_203 rfl ?_
                  obtain ⟨r453, e454, h⟩ := hx_bind h
                  refine hs_callV hC 14 [_, _] _ dX13_branch_205 q2101 q2103 qs112 q327 q2104 np_X13 rfl OB_14 pd_X13_value (Nat.le_of_ble_eq_true rfl) hd1 (IH _ _ _ _ e454 am) (hc_rb rfl) rfl (fun am455 ha456 => ?_)
                  refine hr_iconst (v := 5) hC dX13_branch_208 rfl ?_
                  obtain ⟨r457, e458, h⟩ := hx_bind h
                  refine hs_callV hC 14 [_, _] _ dX13_branch_209 q2167 q2169 qs121 q327 q2170 np_X13 rfl OB_14 pd_X13_use (Nat.le_of_ble_eq_true rfl) hd1 (okX13_use l E A (d - 1)  (by omega)  e458 am455) (hc_rb rfl) rfl (fun am459 ha460 => ?_)
                  refine hr_istore hC dX13_branch_212 (by decide) ?_
                  refine hr_aload_n hC dX13_branch_214 rfl ?_
                  refine hr_gO 13 hC F14_5 rfl dX13_branch_215 q800 ?_
                  refine hr_iload_n hC dX13_branch_218 rfl ?_
                  obtain ⟨v463, hv463, h⟩ := hl_ok h
                  have J468 : ∀ w469 : Int32, (if x3 = 0 then 0 else 1) = w469 → hc_At hc_V0 E 8 X 227 [(2, .int x2), (7, .int r457.1)] [.int w469, .ref (E.2.1 13)] r457.2 am459 [] := by
                    intro w469 hw469
                    obtain rfl := hv463.trans hw469
                    refine hr_iload hC dX13_branch_227 rfl ?_
                    refine hr_iconst (v := 0) hC dX13_branch_229 rfl ?_
                    refine hr_iload_n hC dX13_branch_230 rfl ?_
                    obtain ⟨r464, e465, h⟩ := hx_bind h
                    refine hs_callV hC 13 [_, _, _, _] _ dX13_branch_231 q1987 q1988 q1989 q326 q1990 np_X12 rfl OB_13 pd_X12_branch (Nat.le_of_ble_eq_true rfl) hd1 (okX12_branch l E A (d - 1)  (by omega)  e465 am459) (hc_rb rfl) rfl (fun am466 ha467 => ?_)
                    obtain rfl := Option.some.inj h
                    exact hr_sub _ rfl (J19 am466)
                  refine hr_if_eq (x := _) hC 226 dX13_branch_219 (by decide) (fun c470 => ?_) (fun c470 => ?_)
                  · refine hr_iconst (v := 0) hC dX13_branch_226 rfl ?_
                    exact hr_sub _ rfl (J468 _ (by first | (rw [if_pos c470]; done) | (simp only [if_pos c470]; done) | rfl))
                  · refine hr_iconst (v := 1) hC dX13_branch_222 rfl ?_
                    refine hr_goto hC 227 dX13_branch_223 (by decide) ?_
                    exact hr_sub _ rfl (J468 _ (by first | (rw [if_neg c470]; done) | (simp only [if_neg c470]; done) | rfl))
                · rw [if_pos c452] at h
                  refine hr_aload_n hC dX13_branch_167 rfl ?_
                  refine hr_gO 6 hC F14_0 rfl dX13_branch_168 q795 ?_
                  refine hr_aload_n hC dX13_branch_171 rfl ?_
                  refine hr_gO 6 hC F14_0 rfl dX13_branch_172 q795 ?_
                  refine hr_iload hC dX13_branch_175 rfl ?_
                  obtain ⟨r471, e472, h⟩ := hx_bind h
                  refine hs_callV0 hC 6 [_] _ dX13_branch_177 q2068 q1603 q1604 q320 q1605 np_X6 rfl OB_6 pd_X6_next (Nat.le_of_ble_eq_true rfl) hd1 (okX6_next l E A (d - 1)  (by omega)  e472 am) rfl ?_
                  obtain ⟨r475, e476, h⟩ := hx_bind h
                  refine hs_callV0 hC 6 [_] _ dX13_branch_180 q2068 q1603 q1604 q320 q1605 np_X6 rfl OB_6 pd_X6_next (Nat.le_of_ble_eq_true rfl) hd1 (okX6_next l E A (d - 1)  (by omega)  e476 am) rfl ?_
                  refine hr_iconst (v := (-1)) hC dX13_branch_183 rfl ?_
                  refine hr_icmp_ne (x := _) hC 200 dX13_branch_184 (by decide) (fun c480 => ?_) (fun c480 => ?_)
                  · rw [if_neg c480] at h
                    refine hr_aload_n hC dX13_branch_200 rfl ?_
                    refine hr_aload_n hC dX13_branch_201 rfl ?_
                    refine hr_iload_n hC dX13_branch_202 rfl ?_
                    refine hr_iload hC dX13_branch_203 rfl ?_
                    obtain ⟨r481, e482, h⟩ := hx_bind h
                    refine hs_callV hC 14 [_, _] _ dX13_branch_205 q2101 q2103 qs112 q327 q2104 np_X13 rfl OB_14 pd_X13_value (Nat.le_of_ble_eq_true rfl) hd1 (IH _ _ _ _ e482 am) (hc_rb rfl) rfl (fun am483 ha484 => ?_)
                    refine hr_iconst (v := 5) hC dX13_branch_208 rfl ?_
                    obtain ⟨r485, e486, h⟩ := hx_bind h
                    refine hs_callV hC 14 [_, _] _ dX13_branch_209 q2167 q2169 qs121 q327 q2170 np_X13 rfl OB_14 pd_X13_use (Nat.le_of_ble_eq_true rfl) hd1 (okX13_use l E A (d - 1)  (by omega)  e486 am483) (hc_rb rfl) rfl (fun am487 ha488 => ?_)
                    refine hr_istore hC dX13_branch_212 (by decide) ?_
                    refine hr_aload_n hC dX13_branch_214 rfl ?_
                    refine hr_gO 13 hC F14_5 rfl dX13_branch_215 q800 ?_
                    refine hr_iload_n hC dX13_branch_218 rfl ?_
                    obtain ⟨v491, hv491, h⟩ := hl_ok h
                    have J496 : ∀ w497 : Int32, (if x3 = 0 then 0 else 1) = w497 → hc_At hc_V0 E 8 X 227 [(2, .int x2), (7, .int r485.1)] [.int w497, .ref (E.2.1 13)] r485.2 am487 [] := by
                      intro w497 hw497
                      obtain rfl := hv491.trans hw497
                      refine hr_iload hC dX13_branch_227 rfl ?_
                      refine hr_iconst (v := 0) hC dX13_branch_229 rfl ?_
                      refine hr_iload_n hC dX13_branch_230 rfl ?_
                      obtain ⟨r492, e493, h⟩ := hx_bind h
                      refine hs_callV hC 13 [_, _, _, _] _ dX13_branch_231 q1987 q1988 q1989 q326 q1990 np_X12 rfl OB_13 pd_X12_branch (Nat.le_of_ble_eq_true rfl) hd1 (okX12_branch l E A (d - 1)  (by omega)  e493 am487) (hc_rb rfl) rfl (fun am494 ha495 => ?_)
                      obtain rfl := Option.some.inj h
                      exact hr_sub _ rfl (J19 am494)
                    refine hr_if_eq (x := _) hC 226 dX13_branch_219 (by decide) (fun c498 => ?_) (fun c498 => ?_)
                    · refine hr_iconst (v := 0) hC dX13_branch_226 rfl ?_
                      exact hr_sub _ rfl (J496 _ (by first | (rw [if_pos c498]; done) | (simp only [if_pos c498]; done) | rfl))
                    · refine hr_iconst (v := 1) hC dX13_branch_222 rfl ?_
                      refine hr_goto hC 227 dX13_branch_223 (by decide) ?_
                      exact hr_sub _ rfl (J496 _ (by first | (rw [if_neg c498]; done) | (simp only [if_neg c498]; done) | rfl))
                  · rw [if_pos c480] at h
                    refine hr_aload_n hC dX13_branch_187 rfl ?_
                    refine hr_iload hC dX13_branch_188 rfl ?_
                    refine hr_iload_n hC dX13_branch_190 rfl ?_
                    refine hr_iload_n hC dX13_branch_191 rfl ?_
                    refine hr_iload hC dX13_branch_192 rfl ?_
                    obtain ⟨r499, e500, h⟩ := hx_bind h
                    refine hs_callV hC 14 [_, _, _, _] _ dX13_branch_194 q2278 q2280 qs144 q327 q2281 np_X13 rfl OB_14 pd_X13_compared (Nat.le_of_ble_eq_true rfl) hd1 (IH _ _ _ _ e500 am) (hc_rb rfl) rfl (fun am501 ha502 => ?_)
                    refine hr_goto hC 234 dX13_branch_197 (by decide) ?_
                    obtain rfl := Option.some.inj h
                    exact hr_sub _ rfl (J19 am501)
          · rw [if_neg c388] at h
            refine hr_aload_n hC dX13_branch_120 rfl ?_
            refine hr_iload_n hC dX13_branch_121 rfl ?_
            refine hr_iload hC dX13_branch_122 rfl ?_
            refine hr_iload_n hC dX13_branch_124 rfl ?_
            refine hr_iload_n hC dX13_branch_125 rfl ?_
            refine hr_iload hC dX13_branch_126 rfl ?_
            obtain ⟨r503, e504, h⟩ := hx_bind h
            refine hs_callV hC 14 [_, _, _, _, _] _ dX13_branch_128 q2274 q2276 qs143 q327 q2277 np_X13 rfl OB_14 pd_X13_decide (Nat.le_of_ble_eq_true rfl) hd1 (IH _ _ _ _ e504 am) (hc_rb rfl) rfl (fun am505 ha506 => ?_)
            refine hr_goto hC 234 dX13_branch_131 (by decide) ?_
            obtain rfl := Option.some.inj h
            exact hr_sub _ rfl (J19 am505)
      · rw [if_pos c266] at h
        refine hr_aload_n hC dX13_branch_80 rfl ?_
        refine hr_iload hC dX13_branch_81 rfl ?_
        refine hr_iload_n hC dX13_branch_83 rfl ?_
        refine hr_iload_n hC dX13_branch_84 rfl ?_
        obtain ⟨v509, hv509, h⟩ := hl_ok h
        have J514 : ∀ w515 : Int32, (if x3 = 0 then 1 else 0) = w515 → hc_At hc_V0 E 8 X 93 [(4, .int x4)] [.int w515, .int x2, .int r11, .ref (E.2.1 14)] r1.2 am [] := by
          intro w515 hw515
          obtain rfl := hv509.trans hw515
          refine hr_iload hC dX13_branch_93 rfl ?_
          obtain ⟨r510, e511, h⟩ := hx_bind h
          refine hs_callV hC 14 [_, _, _, _] _ dX13_branch_95 q2270 q2272 qs142 q327 q2273 np_X13 rfl OB_14 pd_X13_branch (Nat.le_of_ble_eq_true rfl) hd1 (IH _ _ _ _ e511 am) (hc_rb rfl) rfl (fun am512 ha513 => ?_)
          refine hr_goto hC 234 dX13_branch_98 (by decide) ?_
          obtain rfl := Option.some.inj h
          exact hr_sub _ rfl (J19 am512)
        refine hr_if_ne (x := _) hC 92 dX13_branch_85 (by decide) (fun c516 => ?_) (fun c516 => ?_)
        · refine hr_iconst (v := 0) hC dX13_branch_92 rfl ?_
          exact hr_sub _ rfl (J514 _ (by first | (rw [if_neg c516]; done) | (simp only [if_neg c516]; done) | rfl))
        · refine hr_iconst (v := 1) hC dX13_branch_88 rfl ?_
          refine hr_goto hC 93 dX13_branch_89 (by decide) ?_
          exact hr_sub _ rfl (J514 _ (by first | (rw [if_pos c516]; done) | (simp only [if_pos c516]; done) | rfl))
  · rw [if_neg c6] at h
    refine hr_aload_n hC dX13_branch_11 rfl ?_
    refine hr_gO 15 hC F14_6 rfl dX13_branch_12 q801 ?_
    obtain ⟨r518, e519, h⟩ := hx_bind h
    refine hs_callV0 hC 15 [] _ dX13_branch_15 q2131 q2132 q2133 q328 q2134 np_X14 rfl OB_15 pd_X14_value (Nat.le_of_ble_eq_true rfl) hd1 (okX14_value l E A (d - 1)  (by omega)  e519 am) rfl ?_
    obtain ⟨v524, hv524, h⟩ := hl_ok h
    have J536 : ∀ w537 : Int32, (if r518 = 0 then 0 else 1) = w537 → hc_At hc_V0 E 8 X 26 [(0, .ref (E.2.1 14)), (2, .int x2), (3, .int x3)] [.int w537] r1.2 am [] := by
      intro w537 hw537
      obtain rfl := hv524.trans hw537
      refine hr_iload_n hC dX13_branch_26 rfl ?_
      obtain ⟨r527, e528, h⟩ := hx_bind h
      have J529 : ∀ am535, hc_At hc_V0 E 8 X 39 [] [] r527 am535 [] := by
        intro am535
        obtain rfl := Option.some.inj h
        exact hr_vret hC dX13_branch_39
      clear h
      have h := e528
      refine hr_icmp_ne (x := _) hC 39 dX13_branch_27 (by decide) (fun c526 => ?_) (fun c526 => ?_)
      · rw [if_neg c526] at h
        obtain rfl := Option.some.inj h
        exact hr_sub _ rfl (J529 am)
      · rw [if_pos c526] at h
        refine hr_aload_n hC dX13_branch_30 rfl ?_
        refine hr_gO 13 hC F14_5 rfl dX13_branch_31 q800 ?_
        refine hr_iconst (v := 0) hC dX13_branch_34 rfl ?_
        refine hr_iload_n hC dX13_branch_35 rfl ?_
        obtain ⟨r531, e532, h⟩ := hx_bind h
        refine hs_callV hC 13 [_, _] _ dX13_branch_36 q1904 q1905 q1906 q326 q1907 np_X12 rfl OB_13 pd_X12_jump (Nat.le_of_ble_eq_true rfl) hd1 (okX12_jump l E A (d - 1)  (by omega)  e532 am) (hc_rb rfl) rfl (fun am533 ha534 => ?_)
        obtain rfl := Option.some.inj h
        exact hr_sub _ rfl (J529 am533)
    refine hr_if_eq (x := _) hC 25 dX13_branch_18 (by decide) (fun c538 => ?_) (fun c538 => ?_)
    · refine hr_iconst (v := 0) hC dX13_branch_25 rfl ?_
      exact hr_sub _ rfl (J536 _ (by first | (rw [if_pos c538]; done) | (simp only [if_pos c538]; done) | rfl))
    · refine hr_iconst (v := 1) hC dX13_branch_21 rfl ?_
      refine hr_goto hC 26 dX13_branch_22 (by decide) ?_
      exact hr_sub _ rfl (J536 _ (by first | (rw [if_neg c538]; done) | (simp only [if_neg c538]; done) | rfl))
def lp_X13_decide_31 (n : Nat) (k0 : Nat) (rec : Nat → List Int32 → hc_St → Option (Int32 × hc_St)) : Nat → Int32 → Int32 → Int32 → Int32 → Int32 → Int32 → Int32 → hc_St → Option (hc_St)
  | 0, _, _, _, _, _, _, _, _ => none
  | m + 1, y2, y3, y4, y5, y6, y7, y8, σ => if y8 = (-1) then (some (σ)) else (Option.bind (α := Int32) (if y8 = y2 then (some (y8)) else (Option.bind (fm_X6_first y8 σ) fun r20 => some (r20))) fun r16 => Option.bind (fm_X6_next y8 σ) fun r24 => hl (α := Int32) ((if r24 = (-1) then 1 else 0)) fun v30 => Option.bind (α := hc_St) (if v30 = 0 then (hl (α := Int32) ((if y6 = y4 then y3 else y7)) fun v39 => Option.bind (rec 7 [r16, v39, y6, y5] σ) fun r40 => some (r40.2)) else (Option.bind (rec 7 [r16, y3, y4, y5] σ) fun r47 => some (r47.2))) fun r33 => Option.bind (fm_X6_next y8 r33) fun r52 => lp_X13_decide_31 n k0 rec m y2 y3 y4 y5 y6 y7 r52 r33)
/-- HomeCompiler$Generator.decide(IIIZI)V -/
def bd_X13_decide (n : Nat) (k0 : Nat) (rec : Nat → List Int32 → hc_St → Option (Int32 × hc_St)) (x1 : Int32) (x2 : Int32) (x3 : Int32) (x4 : Int32) (x5 : Int32) (σ : hc_St) : Option (Int32 × hc_St) := Option.bind (fm_X6_value x1 σ) fun r1 => hl (α := Int32) ((if r1 = 1 then 1 else 0)) fun v7 => Option.bind (fm_X12_label  σ) fun r8 => Option.bind (lp_X13_decide_31 n k0 rec n x2 x3 x4 x5 v7 r8.1 x2 r8.2) fun r59 => Option.bind (fm_X12_here r8.1 r59) fun r64 => some (0, r64)
set_option maxRecDepth 20000 in
set_option maxHeartbeats 4000000 in
theorem ll_X13_decide_31 {l : Launch} {E : hc_E} {A : Nat → Prop} {am : Nat → Nat → Nat} {d : Nat} {kk : Nat} {X : hc_X} (n : Nat) (k0 : Nat) (rec : Nat → List Int32 → hc_St → Option (Int32 × hc_St)) (hD : kk + 1 * k0 + 13 ≤ d) (hem : X.2.2.2.2.2.2.2.2.2.1.exceptionTable.isEmpty = true) (IH : ∀ (w : Nat) (a : List Int32) (σ : hc_St) (r : (Int32 × hc_St)), rec w a σ = some r → ∀ am, okg_X13_value l E A (d - 1) am w a σ r) {oc : hc_Oc} {σe : hc_St} (hC : hc_C hc_V0 E cX13_decide 11 RX13 none d oc σe (l, A, am, [13]) X) : ∀ (m : Nat) (σ : hc_St) (y2 : Int32) (y3 : Int32) (y4 : Int32) (y5 : Int32) (y6 : Int32) (y7 : Int32) (y8 : Int32) (rl : hc_St), lp_X13_decide_31 n k0 rec m y2 y3 y4 y5 y6 y7 y8 σ = some rl → (∀ am1, hc_At hc_V0 E 11 X 135 [(0, .ref (E.2.1 14)), (7, .int y7)] [] rl am1 []) → ∀ am1, hc_At hc_V0 E 11 X 31 [(0, .ref (E.2.1 14)), (2, .int y2), (3, .int y3), (4, .int y4), (5, .int y5), (6, .int y6), (7, .int y7), (8, .int y8)] [] σ am1 [] := by
  have hd1 : 1 ≤ d := by omega
  have hd8 : 9 ≤ d := by omega
  have hd12 : 12 ≤ d := by omega
  intro m
  induction m with
  | zero =>
    intro σ y2 y3 y4 y5 y6 y7 y8 rl h
    cases h
  | succ m ih =>
    intro σ y2 y3 y4 y5 y6 y7 y8 rl h JX am1
    rw [lp_X13_decide_31] at h
    refine hr_iload hC dX13_decide_31 rfl ?_
    refine hr_iconst (v := (-1)) hC dX13_decide_33 rfl ?_
    refine hr_icmp_eq (x := _) hC 135 dX13_decide_34 (by decide) (fun c13 => ?_) (fun c13 => ?_)
    · rw [if_pos c13] at h
      obtain rfl := Option.some.inj h
      exact hr_sub _ rfl (JX am1)
    · rw [if_neg c13] at h
      refine hr_iload hC dX13_decide_37 rfl ?_
      refine hr_iload_n hC dX13_decide_39 rfl ?_
      obtain ⟨r16, e17, h⟩ := hx_bind h
      have J18 : hc_At hc_V0 E 11 X 57 [(0, .ref (E.2.1 14)), (2, .int y2), (3, .int y3), (4, .int y4), (5, .int y5), (6, .int y6), (7, .int y7), (8, .int y8)] [.int r16] σ am1 [] := by
        refine hr_istore hC dX13_decide_57 (by decide) ?_
        refine hr_aload_n hC dX13_decide_59 rfl ?_
        refine hr_gO 6 hC F14_0 rfl dX13_decide_60 q795 ?_
        refine hr_iload hC dX13_decide_63 rfl ?_
        obtain ⟨r24, e25, h⟩ := hx_bind h
        refine hs_callV0 hC 6 [_] _ dX13_decide_65 q2068 q1603 q1604 q320 q1605 np_X6 rfl OB_6 pd_X6_next (Nat.le_of_ble_eq_true rfl) hd1 (okX6_next l E A (d - 1)  (by omega)  e25 am1) rfl ?_
        refine hr_iconst (v := (-1)) hC dX13_decide_68 rfl ?_
        obtain ⟨v30, hv30, h⟩ := hl_ok h
        have J56 : ∀ w57 : Int32, (if r24 = (-1) then 1 else 0) = w57 → hc_At hc_V0 E 11 X 77 [(0, .ref (E.2.1 14)), (2, .int y2), (3, .int y3), (4, .int y4), (5, .int y5), (6, .int y6), (7, .int y7), (8, .int y8), (9, .int r16)] [.int w57] σ am1 [] := by
          intro w57 hw57
          obtain rfl := hv30.trans hw57
          refine hr_istore hC dX13_decide_77 (by decide) ?_
          refine hr_iload hC dX13_decide_79 rfl ?_
          obtain ⟨r33, e34, h⟩ := hx_bind h
          have J35 : ∀ am51, hc_At hc_V0 E 11 X 121 [(0, .ref (E.2.1 14)), (2, .int y2), (3, .int y3), (4, .int y4), (5, .int y5), (6, .int y6), (7, .int y7), (8, .int y8)] [] r33 am51 [] := by
            intro am51
            refine hr_aload_n hC dX13_decide_121 rfl ?_
            refine hr_gO 6 hC F14_0 rfl dX13_decide_122 q795 ?_
            refine hr_iload hC dX13_decide_125 rfl ?_
            obtain ⟨r52, e53, h⟩ := hx_bind h
            refine hs_callV0 hC 6 [_] _ dX13_decide_127 q2068 q1603 q1604 q320 q1605 np_X6 rfl OB_6 pd_X6_next (Nat.le_of_ble_eq_true rfl) hd1 (okX6_next l E A (d - 1)  (by omega)  e53 am51) rfl ?_
            refine hr_istore hC dX13_decide_130 (by decide) ?_
            refine hr_goto hC 31 dX13_decide_132 (by decide) ?_
            exact hr_sub _ rfl (ih _ _ _ _ _ _ _ _ _ h JX am51)
          clear h
          have h := e34
          refine hr_if_eq (x := _) hC 98 dX13_decide_81 (by decide) (fun c32 => ?_) (fun c32 => ?_)
          · rw [if_pos c32] at h
            refine hr_aload_n hC dX13_decide_98 rfl ?_
            refine hr_iload hC dX13_decide_99 rfl ?_
            refine hr_iload hC dX13_decide_101 rfl ?_
            refine hr_iload hC dX13_decide_103 rfl ?_
            obtain ⟨v39, hv39, h⟩ := hl_ok h
            have J44 : ∀ w45 : Int32, (if y6 = y4 then y3 else y7) = w45 → hc_At hc_V0 E 11 X 114 [(0, .ref (E.2.1 14)), (2, .int y2), (3, .int y3), (4, .int y4), (5, .int y5), (6, .int y6), (7, .int y7), (8, .int y8)] [.int w45, .int r16, .ref (E.2.1 14)] σ am1 [] := by
              intro w45 hw45
              obtain rfl := hv39.trans hw45
              refine hr_iload hC dX13_decide_114 rfl ?_
              refine hr_iload hC dX13_decide_116 rfl ?_
              obtain ⟨r40, e41, h⟩ := hx_bind h
              refine hs_callV hC 14 [_, _, _, _] _ dX13_decide_118 q2270 q2272 qs142 q327 q2273 np_X13 rfl OB_14 pd_X13_branch (Nat.le_of_ble_eq_true rfl) hd1 (IH _ _ _ _ e41 am1) (hc_rb rfl) rfl (fun am42 ha43 => ?_)
              obtain rfl := Option.some.inj h
              exact hr_sub _ rfl (J35 am42)
            refine hr_icmp_ne (x := _) hC 112 dX13_decide_105 (by decide) (fun c46 => ?_) (fun c46 => ?_)
            · refine hr_iload hC dX13_decide_112 rfl ?_
              exact hr_sub _ rfl (J44 _ (by first | (rw [if_neg c46]; done) | (simp only [if_neg c46]; done) | rfl))
            · refine hr_iload_n hC dX13_decide_108 rfl ?_
              refine hr_goto hC 114 dX13_decide_109 (by decide) ?_
              exact hr_sub _ rfl (J44 _ (by first | (rw [if_pos c46]; done) | (simp only [if_pos c46]; done) | rfl))
          · rw [if_neg c32] at h
            refine hr_aload_n hC dX13_decide_84 rfl ?_
            refine hr_iload hC dX13_decide_85 rfl ?_
            refine hr_iload_n hC dX13_decide_87 rfl ?_
            refine hr_iload hC dX13_decide_88 rfl ?_
            refine hr_iload hC dX13_decide_90 rfl ?_
            obtain ⟨r47, e48, h⟩ := hx_bind h
            refine hs_callV hC 14 [_, _, _, _] _ dX13_decide_92 q2270 q2272 qs142 q327 q2273 np_X13 rfl OB_14 pd_X13_branch (Nat.le_of_ble_eq_true rfl) hd1 (IH _ _ _ _ e48 am1) (hc_rb rfl) rfl (fun am49 ha50 => ?_)
            refine hr_goto hC 121 dX13_decide_95 (by decide) ?_
            obtain rfl := Option.some.inj h
            exact hr_sub _ rfl (J35 am49)
        refine hr_icmp_ne (x := _) hC 76 dX13_decide_69 (by decide) (fun c58 => ?_) (fun c58 => ?_)
        · refine hr_iconst (v := 0) hC dX13_decide_76 rfl ?_
          exact hr_sub _ rfl (J56 _ (by first | (rw [if_neg c58]; done) | (simp only [if_neg c58]; done) | rfl))
        · refine hr_iconst (v := 1) hC dX13_decide_72 rfl ?_
          refine hr_goto hC 77 dX13_decide_73 (by decide) ?_
          exact hr_sub _ rfl (J56 _ (by first | (rw [if_pos c58]; done) | (simp only [if_pos c58]; done) | rfl))
      clear h
      have h := e17
      refine hr_icmp_ne (x := _) hC 48 dX13_decide_40 (by decide) (fun c15 => ?_) (fun c15 => ?_)
      · rw [if_neg c15] at h
        refine hr_aload_n hC dX13_decide_48 rfl ?_
        refine hr_gO 6 hC F14_0 rfl dX13_decide_49 q795 ?_
        refine hr_iload hC dX13_decide_52 rfl ?_
        obtain ⟨r20, e21, h⟩ := hx_bind h
        refine hs_callV0 hC 6 [_] _ dX13_decide_54 q2048 q1576 q1577 q320 q1578 np_X6 rfl OB_6 pd_X6_first (Nat.le_of_ble_eq_true rfl) hd1 (okX6_first l E A (d - 1)  (by omega)  e21 am1) rfl ?_
        obtain rfl := Option.some.inj h
        exact hr_sub _ rfl (J18)
      · rw [if_pos c15] at h
        refine hr_iload hC dX13_decide_43 rfl ?_
        refine hr_goto hC 57 dX13_decide_45 (by decide) ?_
        obtain rfl := Option.some.inj h
        exact hr_sub _ rfl (J18)
set_option maxRecDepth 20000 in
set_option maxHeartbeats 4000000 in
theorem okbX13_decide (l : Launch) (E : hc_E) (A : Nat → Prop) (d : Nat) {kk : Nat} (n : Nat) (k0 : Nat) (rec : Nat → List Int32 → hc_St → Option (Int32 × hc_St)) (hD : kk + 1 * k0 + 13 ≤ d) (IH : ∀ (w : Nat) (a : List Int32) (σ : hc_St) (r : (Int32 × hc_St)), rec w a σ = some r → ∀ am, okg_X13_value l E A (d - 1) am w a σ r) {x1 : Int32} {x2 : Int32} {x3 : Int32} {x4 : Int32} {x5 : Int32} {σ : hc_St} {r : (Int32 × hc_St)} (h : bd_X13_decide n k0 rec x1 x2 x3 x4 x5 σ = some r) (am : Nat → Nat → Nat) : hc_M l hc_V0 yX13_decide (ws_ yX13_decide cX13_decide 11 none) d E A [.ref (E.2.1 14), .int x1, .int x2, .int x3, .int x4, .int x5] am [13] σ (.inl (none)) r.2 := by
  have hd1 : 1 ≤ d := by omega
  have hd8 : 9 ≤ d := by omega
  have hd12 : 12 ≤ d := by omega
  refine hc_enter2 (own := RX13) [(0, .ref (E.2.1 14)), (1, .int x1), (2, .int x2), (3, .int x3), (4, .int x4), (5, .int x5)] pl_X13 rfl hc_V0_st hc_G0_nd rfl (Nat.le_of_ble_eq_true rfl) (fun X hC hem => ?_)
  unfold bd_X13_decide at h
  refine hr_aload_n hC dX13_decide_0 rfl ?_
  refine hr_gO 6 hC F14_0 rfl dX13_decide_1 q795 ?_
  refine hr_iload_n hC dX13_decide_4 rfl ?_
  obtain ⟨r1, e2, h⟩ := hx_bind h
  refine hs_callV0 hC 6 [_] _ dX13_decide_5 q2099 q1586 q1587 q320 q1588 np_X6 rfl OB_6 pd_X6_value (Nat.le_of_ble_eq_true rfl) hd1 (okX6_value l E A (d - 1)  (by omega)  e2 am) rfl ?_
  refine hr_iconst (v := 1) hC dX13_decide_8 rfl ?_
  obtain ⟨v7, hv7, h⟩ := hl_ok h
  have J68 : ∀ w69 : Int32, (if r1 = 1 then 1 else 0) = w69 → hc_At hc_V0 E 11 X 17 [(0, .ref (E.2.1 14)), (2, .int x2), (3, .int x3), (4, .int x4), (5, .int x5)] [.int w69] σ am [] := by
    intro w69 hw69
    obtain rfl := hv7.trans hw69
    refine hr_istore hC dX13_decide_17 (by decide) ?_
    refine hr_aload_n hC dX13_decide_19 rfl ?_
    refine hr_gO 13 hC F14_5 rfl dX13_decide_20 q800 ?_
    obtain ⟨r8, e9, h⟩ := hx_bind h
    refine hs_callV hC 13 [] _ dX13_decide_23 q1888 q1889 q1890 q326 q1891 np_X12 rfl OB_13 pd_X12_label (Nat.le_of_ble_eq_true rfl) hd1 (okX12_label l E A (d - 1)  (by omega)  e9 am) (hc_rb rfl) rfl (fun am10 ha11 => ?_)
    refine hr_istore hC dX13_decide_26 (by decide) ?_
    refine hr_iload_n hC dX13_decide_28 rfl ?_
    refine hr_istore hC dX13_decide_29 (by decide) ?_
    obtain ⟨r59, e60, h⟩ := hx_bind h
    refine hr_sub _ rfl (ll_X13_decide_31 n k0 rec hD hem IH hC n _ _ _ _ _ _ _ _ _ e60 (fun am63 => ?_) am10)
    refine hr_aload_n hC dX13_decide_135 rfl ?_
    refine hr_gO 13 hC F14_5 rfl dX13_decide_136 q800 ?_
    refine hr_iload hC dX13_decide_139 rfl ?_
    obtain ⟨r64, e65, h⟩ := hx_bind h
    refine hs_callV0 hC 13 [_] _ dX13_decide_141 q1927 q1928 q1929 q326 q1930 np_X12 rfl OB_13 pd_X12_here (Nat.le_of_ble_eq_true rfl) hd1 (okX12_here l E A (d - 1)  (by omega)  e65 am63) rfl ?_
    obtain rfl := Option.some.inj h
    exact hr_vret hC dX13_decide_144
  refine hr_icmp_ne (x := _) hC 16 dX13_decide_9 (by decide) (fun c70 => ?_) (fun c70 => ?_)
  · refine hr_iconst (v := 0) hC dX13_decide_16 rfl ?_
    exact hr_sub _ rfl (J68 _ (by first | (rw [if_neg c70]; done) | (simp only [if_neg c70]; done) | rfl))
  · refine hr_iconst (v := 1) hC dX13_decide_12 rfl ?_
    refine hr_goto hC 17 dX13_decide_13 (by decide) ?_
    exact hr_sub _ rfl (J68 _ (by first | (rw [if_pos c70]; done) | (simp only [if_pos c70]; done) | rfl))
/-- HomeCompiler$Generator.compared(IIZI)V -/
def bd_X13_compared (n : Nat) (k0 : Nat) (rec : Nat → List Int32 → hc_St → Option (Int32 × hc_St)) (x1 : Int32) (x2 : Int32) (x3 : Int32) (x4 : Int32) (σ : hc_St) : Option (Int32 × hc_St) := Option.bind (fm_X6_next x1 σ) fun r1 => Option.bind (fm_X6_first r1 σ) fun r5 => Option.bind (rec 0 [x1, x4] σ) fun r9 => Option.bind (fm_X13_isHome r9.1 x4 r9.2) fun r13 => Option.bind (α := hc_St × Int32) (if r13 = 0 then (some (r9.2, r9.1)) else (Option.bind (fm_X14_changes n k0 r5 r9.2) fun r23 => if r23.1 = 0 then (some (r23.2, r9.1)) else (Option.bind (fm_X13_copy r9.1 x4 r23.2) fun r29 => some (r29.2, r29.1)))) fun r19 => Option.bind (rec 0 [r5, ((x4 + 1))] r19.1) fun r34 => Option.bind (fm_X13_use r19.2 5 r34.2) fun r38 => Option.bind (fm_X13_use r34.1 6 r38.2) fun r42 => Option.bind (fm_X6_op r1 r42.2) fun r46 => hl (α := Int32) ((if r46 = 62 then 1 else (if r46 = 132 then 1 else 0))) fun v52 => hl (α := Int32) ((if r46 = 130 then 0 else (if r46 = 131 then 1 else (if r46 = 60 then 4 else (if r46 = 62 then 4 else 5))))) fun v55 => hl (α := Int32) ((if x3 = 0 then (v55 ^^^ 1) else v55)) fun v58 => hl (α := Int32) ((if v52 = 0 then r38.1 else r42.1)) fun v61 => hl (α := Int32) ((if v52 = 0 then r42.1 else r38.1)) fun v64 => Option.bind (fm_X12_branch v58 v61 v64 x2 r42.2) fun r65 => some (0, r65)
set_option maxRecDepth 20000 in
set_option maxHeartbeats 4000000 in
theorem okbX13_compared (l : Launch) (E : hc_E) (A : Nat → Prop) (d : Nat) {kk : Nat} (n : Nat) (k0 : Nat) (rec : Nat → List Int32 → hc_St → Option (Int32 × hc_St)) (hD : kk + 1 * k0 + 13 ≤ d) (IH : ∀ (w : Nat) (a : List Int32) (σ : hc_St) (r : (Int32 × hc_St)), rec w a σ = some r → ∀ am, okg_X13_value l E A (d - 1) am w a σ r) {x1 : Int32} {x2 : Int32} {x3 : Int32} {x4 : Int32} {σ : hc_St} {r : (Int32 × hc_St)} (h : bd_X13_compared n k0 rec x1 x2 x3 x4 σ = some r) (am : Nat → Nat → Nat) : hc_M l hc_V0 yX13_compared (ws_ yX13_compared cX13_compared 14 none) d E A [.ref (E.2.1 14), .int x1, .int x2, .int x3, .int x4] am [13] σ (.inl (none)) r.2 := by
  have hd1 : 1 ≤ d := by omega
  have hd8 : 9 ≤ d := by omega
  have hd12 : 12 ≤ d := by omega
  refine hc_enter2 (own := RX13) [(0, .ref (E.2.1 14)), (1, .int x1), (2, .int x2), (3, .int x3), (4, .int x4)] pl_X13 rfl hc_V0_st hc_G0_nd rfl (Nat.le_of_ble_eq_true rfl) (fun X hC hem => ?_)
  unfold bd_X13_compared at h
  refine hr_aload_n hC dX13_compared_0 rfl ?_
  refine hr_gO 6 hC F14_0 rfl dX13_compared_1 q795 ?_
  refine hr_iload_n hC dX13_compared_4 rfl ?_
  obtain ⟨r1, e2, h⟩ := hx_bind h
  refine hs_callV0 hC 6 [_] _ dX13_compared_5 q2068 q1603 q1604 q320 q1605 np_X6 rfl OB_6 pd_X6_next (Nat.le_of_ble_eq_true rfl) hd1 (okX6_next l E A (d - 1)  (by omega)  e2 am) rfl ?_
  refine hr_istore hC dX13_compared_8 (by decide) ?_
  refine hr_aload_n hC dX13_compared_10 rfl ?_
  refine hr_gO 6 hC F14_0 rfl dX13_compared_11 q795 ?_
  refine hr_iload hC dX13_compared_14 rfl ?_
  obtain ⟨r5, e6, h⟩ := hx_bind h
  refine hs_callV0 hC 6 [_] _ dX13_compared_16 q2048 q1576 q1577 q320 q1578 np_X6 rfl OB_6 pd_X6_first (Nat.le_of_ble_eq_true rfl) hd1 (okX6_first l E A (d - 1)  (by omega)  e6 am) rfl ?_
  refine hr_istore hC dX13_compared_19 (by decide) ?_
  refine hr_aload_n hC dX13_compared_21 rfl ?_
  refine hr_iload_n hC dX13_compared_22 rfl ?_
  refine hr_iload hC dX13_compared_23 rfl ?_
  obtain ⟨r9, e10, h⟩ := hx_bind h
  refine hs_callV hC 14 [_, _] _ dX13_compared_25 q2101 q2103 qs112 q327 q2104 np_X13 rfl OB_14 pd_X13_value (Nat.le_of_ble_eq_true rfl) hd1 (IH _ _ _ _ e10 am) (hc_rb rfl) rfl (fun am11 ha12 => ?_)
  refine hr_istore hC dX13_compared_28 (by decide) ?_
  refine hr_iload hC dX13_compared_30 rfl ?_
  refine hr_iload hC dX13_compared_32 rfl ?_
  obtain ⟨r13, e14, h⟩ := hx_bind h
  refine hs_callS0 hC [_, _] _ dX13_compared_34 q2195 q2196 q327 q2197 np_X13 rfl pd_X13_isHome (Nat.le_of_ble_eq_true rfl) hd1 (okX13_isHome l E A (d - 1)  (by omega)  e14 am11) rfl ?_
  obtain ⟨r19, e20, h⟩ := hx_bind h
  have J21 : ∀ am33, hc_At hc_V0 E 14 X 65 [(0, .ref (E.2.1 14)), (2, .int x2), (3, .int x3), (4, .int x4), (5, .int r1), (6, .int r5)] [.int r19.2] r19.1 am33 [] := by
    intro am33
    refine hr_istore hC dX13_compared_65 (by decide) ?_
    refine hr_aload_n hC dX13_compared_67 rfl ?_
    refine hr_iload hC dX13_compared_68 rfl ?_
    refine hr_iload hC dX13_compared_70 rfl ?_
    refine hr_iconst (v := 1) hC dX13_compared_72 rfl ?_
    refine hr_iadd hC dX13_compared_73 ?_
    obtain ⟨r34, e35, h⟩ := hx_bind h
    refine hs_callV hC 14 [_, _] _ dX13_compared_74 q2101 q2103 qs112 q327 q2104 np_X13 rfl OB_14 pd_X13_value (Nat.le_of_ble_eq_true rfl) hd1 (IH _ _ _ _ e35 am33) (hc_rb rfl) rfl (fun am36 ha37 => ?_)
    refine hr_istore hC dX13_compared_77 (by decide) ?_
    refine hr_aload_n hC dX13_compared_79 rfl ?_
    refine hr_iload hC dX13_compared_80 rfl ?_
    refine hr_iconst (v := 5) hC dX13_compared_82 rfl ?_
    obtain ⟨r38, e39, h⟩ := hx_bind h
    refine hs_callV hC 14 [_, _] _ dX13_compared_83 q2167 q2169 qs121 q327 q2170 np_X13 rfl OB_14 pd_X13_use (Nat.le_of_ble_eq_true rfl) hd1 (okX13_use l E A (d - 1)  (by omega)  e39 am36) (hc_rb rfl) rfl (fun am40 ha41 => ?_)
    refine hr_istore hC dX13_compared_86 (by decide) ?_
    refine hr_aload_n hC dX13_compared_88 rfl ?_
    refine hr_iload hC dX13_compared_89 rfl ?_
    refine hr_bipush (v := 6) hC dX13_compared_91 rfl ?_
    obtain ⟨r42, e43, h⟩ := hx_bind h
    refine hs_callV hC 14 [_, _] _ dX13_compared_93 q2167 q2169 qs121 q327 q2170 np_X13 rfl OB_14 pd_X13_use (Nat.le_of_ble_eq_true rfl) hd1 (okX13_use l E A (d - 1)  (by omega)  e43 am40) (hc_rb rfl) rfl (fun am44 ha45 => ?_)
    refine hr_istore hC dX13_compared_96 (by decide) ?_
    refine hr_aload_n hC dX13_compared_98 rfl ?_
    refine hr_gO 6 hC F14_0 rfl dX13_compared_99 q795 ?_
    refine hr_iload hC dX13_compared_102 rfl ?_
    obtain ⟨r46, e47, h⟩ := hx_bind h
    refine hs_callV0 hC 6 [_] _ dX13_compared_104 q1978 q1639 q1640 q320 q1641 np_X6 rfl OB_6 pd_X6_op (Nat.le_of_ble_eq_true rfl) hd1 (okX6_op l E A (d - 1)  (by omega)  e47 am44) rfl ?_
    refine hr_istore hC dX13_compared_107 (by decide) ?_
    refine hr_iload hC dX13_compared_109 rfl ?_
    refine hr_bipush (v := 62) hC dX13_compared_111 rfl ?_
    obtain ⟨v52, hv52, h⟩ := hl_ok h
    have J84 : ∀ w85 : Int32, (if r46 = 62 then 1 else (if r46 = 132 then 1 else 0)) = w85 → hc_At hc_V0 E 14 X 129 [(0, .ref (E.2.1 14)), (2, .int x2), (3, .int x3), (9, .int r38.1), (10, .int r42.1), (11, .int r46)] [.int w85] r42.2 am44 [] := by
      intro w85 hw85
      obtain rfl := hv52.trans hw85
      refine hr_istore hC dX13_compared_129 (by decide) ?_
      refine hr_iload hC dX13_compared_131 rfl ?_
      refine hr_sipush (v := 130) hC dX13_compared_133 rfl ?_
      obtain ⟨v55, hv55, h⟩ := hl_ok h
      have J78 : ∀ w79 : Int32, (if r46 = 130 then 0 else (if r46 = 131 then 1 else (if r46 = 60 then 4 else (if r46 = 62 then 4 else 5)))) = w79 → hc_At hc_V0 E 14 X 174 [(0, .ref (E.2.1 14)), (2, .int x2), (3, .int x3), (9, .int r38.1), (10, .int r42.1), (12, .int v52)] [.int w79] r42.2 am44 [] := by
        intro w79 hw79
        obtain rfl := hv55.trans hw79
        refine hr_istore hC dX13_compared_174 (by decide) ?_
        refine hr_aload_n hC dX13_compared_176 rfl ?_
        refine hr_gO 13 hC F14_5 rfl dX13_compared_177 q800 ?_
        refine hr_iload_n hC dX13_compared_180 rfl ?_
        obtain ⟨v58, hv58, h⟩ := hl_ok h
        have J75 : ∀ w76 : Int32, (if x3 = 0 then (v55 ^^^ 1) else v55) = w76 → hc_At hc_V0 E 14 X 193 [(2, .int x2), (9, .int r38.1), (10, .int r42.1), (12, .int v52)] [.int w76, .ref (E.2.1 13)] r42.2 am44 [] := by
          intro w76 hw76
          obtain rfl := hv58.trans hw76
          refine hr_iload hC dX13_compared_193 rfl ?_
          obtain ⟨v61, hv61, h⟩ := hl_ok h
          have J72 : ∀ w73 : Int32, (if v52 = 0 then r38.1 else r42.1) = w73 → hc_At hc_V0 E 14 X 205 [(2, .int x2), (9, .int r38.1), (10, .int r42.1), (12, .int v52)] [.int w73, .int v58, .ref (E.2.1 13)] r42.2 am44 [] := by
            intro w73 hw73
            obtain rfl := hv61.trans hw73
            refine hr_iload hC dX13_compared_205 rfl ?_
            obtain ⟨v64, hv64, h⟩ := hl_ok h
            have J69 : ∀ w70 : Int32, (if v52 = 0 then r42.1 else r38.1) = w70 → hc_At hc_V0 E 14 X 217 [(2, .int x2)] [.int w70, .int v61, .int v58, .ref (E.2.1 13)] r42.2 am44 [] := by
              intro w70 hw70
              obtain rfl := hv64.trans hw70
              refine hr_iload_n hC dX13_compared_217 rfl ?_
              obtain ⟨r65, e66, h⟩ := hx_bind h
              refine hs_callV hC 13 [_, _, _, _] _ dX13_compared_218 q1987 q1988 q1989 q326 q1990 np_X12 rfl OB_13 pd_X12_branch (Nat.le_of_ble_eq_true rfl) hd1 (okX12_branch l E A (d - 1)  (by omega)  e66 am44) (hc_rb rfl) rfl (fun am67 ha68 => ?_)
              obtain rfl := Option.some.inj h
              exact hr_vret hC dX13_compared_221
            refine hr_if_eq (x := _) hC 215 dX13_compared_207 (by decide) (fun c71 => ?_) (fun c71 => ?_)
            · refine hr_iload hC dX13_compared_215 rfl ?_
              exact hr_sub _ rfl (J69 _ (by first | (rw [if_pos c71]; done) | (simp only [if_pos c71]; done) | rfl))
            · refine hr_iload hC dX13_compared_210 rfl ?_
              refine hr_goto hC 217 dX13_compared_212 (by decide) ?_
              exact hr_sub _ rfl (J69 _ (by first | (rw [if_neg c71]; done) | (simp only [if_neg c71]; done) | rfl))
          refine hr_if_eq (x := _) hC 203 dX13_compared_195 (by decide) (fun c74 => ?_) (fun c74 => ?_)
          · refine hr_iload hC dX13_compared_203 rfl ?_
            exact hr_sub _ rfl (J72 _ (by first | (rw [if_pos c74]; done) | (simp only [if_pos c74]; done) | rfl))
          · refine hr_iload hC dX13_compared_198 rfl ?_
            refine hr_goto hC 205 dX13_compared_200 (by decide) ?_
            exact hr_sub _ rfl (J72 _ (by first | (rw [if_neg c74]; done) | (simp only [if_neg c74]; done) | rfl))
        refine hr_if_eq (x := _) hC 189 dX13_compared_181 (by decide) (fun c77 => ?_) (fun c77 => ?_)
        · refine hr_iload hC dX13_compared_189 rfl ?_
          refine hr_iconst (v := 1) hC dX13_compared_191 rfl ?_
          refine hr_ixor hC dX13_compared_192 ?_
          exact hr_sub _ rfl (J75 _ (by first | (rw [if_pos c77]; done) | (simp only [if_pos c77]; done) | rfl))
        · refine hr_iload hC dX13_compared_184 rfl ?_
          refine hr_goto hC 193 dX13_compared_186 (by decide) ?_
          exact hr_sub _ rfl (J75 _ (by first | (rw [if_neg c77]; done) | (simp only [if_neg c77]; done) | rfl))
      refine hr_icmp_ne (x := _) hC 143 dX13_compared_136 (by decide) (fun c80 => ?_) (fun c80 => ?_)
      · refine hr_iload hC dX13_compared_143 rfl ?_
        refine hr_sipush (v := 131) hC dX13_compared_145 rfl ?_
        refine hr_icmp_ne (x := _) hC 155 dX13_compared_148 (by decide) (fun c81 => ?_) (fun c81 => ?_)
        · refine hr_iload hC dX13_compared_155 rfl ?_
          refine hr_bipush (v := 60) hC dX13_compared_157 rfl ?_
          refine hr_icmp_eq (x := _) hC 169 dX13_compared_159 (by decide) (fun c82 => ?_) (fun c82 => ?_)
          · refine hr_iconst (v := 4) hC dX13_compared_169 rfl ?_
            refine hr_goto hC 174 dX13_compared_170 (by decide) ?_
            exact hr_sub _ rfl (J78 _ (by first | (rw [if_neg c80, if_neg c81, if_pos c82]; done) | (simp only [if_neg c80, if_neg c81, if_pos c82]; done) | rfl))
          · refine hr_iload hC dX13_compared_162 rfl ?_
            refine hr_bipush (v := 62) hC dX13_compared_164 rfl ?_
            refine hr_icmp_ne (x := _) hC 173 dX13_compared_166 (by decide) (fun c83 => ?_) (fun c83 => ?_)
            · refine hr_iconst (v := 5) hC dX13_compared_173 rfl ?_
              exact hr_sub _ rfl (J78 _ (by first | (rw [if_neg c80, if_neg c81, if_neg c82, if_neg c83]; done) | (simp only [if_neg c80, if_neg c81, if_neg c82, if_neg c83]; done) | rfl))
            · refine hr_iconst (v := 4) hC dX13_compared_169 rfl ?_
              refine hr_goto hC 174 dX13_compared_170 (by decide) ?_
              exact hr_sub _ rfl (J78 _ (by first | (rw [if_neg c80, if_neg c81, if_neg c82, if_pos c83]; done) | (simp only [if_neg c80, if_neg c81, if_neg c82, if_pos c83]; done) | rfl))
        · refine hr_iconst (v := 1) hC dX13_compared_151 rfl ?_
          refine hr_goto hC 174 dX13_compared_152 (by decide) ?_
          exact hr_sub _ rfl (J78 _ (by first | (rw [if_neg c80, if_pos c81]; done) | (simp only [if_neg c80, if_pos c81]; done) | rfl))
      · refine hr_iconst (v := 0) hC dX13_compared_139 rfl ?_
        refine hr_goto hC 174 dX13_compared_140 (by decide) ?_
        exact hr_sub _ rfl (J78 _ (by first | (rw [if_pos c80]; done) | (simp only [if_pos c80]; done) | rfl))
    refine hr_icmp_eq (x := _) hC 124 dX13_compared_113 (by decide) (fun c86 => ?_) (fun c86 => ?_)
    · refine hr_iconst (v := 1) hC dX13_compared_124 rfl ?_
      refine hr_goto hC 129 dX13_compared_125 (by decide) ?_
      exact hr_sub _ rfl (J84 _ (by first | (rw [if_pos c86]; done) | (simp only [if_pos c86]; done) | rfl))
    · refine hr_iload hC dX13_compared_116 rfl ?_
      refine hr_sipush (v := 132) hC dX13_compared_118 rfl ?_
      refine hr_icmp_ne (x := _) hC 128 dX13_compared_121 (by decide) (fun c87 => ?_) (fun c87 => ?_)
      · refine hr_iconst (v := 0) hC dX13_compared_128 rfl ?_
        exact hr_sub _ rfl (J84 _ (by first | (rw [if_neg c86, if_neg c87]; done) | (simp only [if_neg c86, if_neg c87]; done) | rfl))
      · refine hr_iconst (v := 1) hC dX13_compared_124 rfl ?_
        refine hr_goto hC 129 dX13_compared_125 (by decide) ?_
        exact hr_sub _ rfl (J84 _ (by first | (rw [if_neg c86, if_pos c87]; done) | (simp only [if_neg c86, if_pos c87]; done) | rfl))
  clear h
  have h := e20
  refine hr_if_eq (x := _) hC 63 dX13_compared_37 (by decide) (fun c18 => ?_) (fun c18 => ?_)
  · rw [if_pos c18] at h
    refine hr_iload hC dX13_compared_63 rfl ?_
    obtain rfl := Option.some.inj h
    exact hr_sub _ rfl (J21 am11)
  · rw [if_neg c18] at h
    refine hr_aload_n hC dX13_compared_40 rfl ?_
    refine hr_gO 15 hC F14_6 rfl dX13_compared_41 q801 ?_
    refine hr_iload hC dX13_compared_44 rfl ?_
    obtain ⟨r23, e24, h⟩ := hx_bind h
    refine hs_callV0 hC 15 [_] _ dX13_compared_46 q2198 q2199 q2200 q328 q2201 np_X14 rfl OB_15 pd_X14_changes (Nat.le_of_ble_eq_true rfl) hd1 (okX14_changes l E A (d - 1) n k0 (by omega)  e24 am11) rfl ?_
    refine hr_if_eq (x := _) hC 63 dX13_compared_49 (by decide) (fun c28 => ?_) (fun c28 => ?_)
    · rw [if_pos c28] at h
      refine hr_iload hC dX13_compared_63 rfl ?_
      obtain rfl := Option.some.inj h
      exact hr_sub _ rfl (J21 am11)
    · rw [if_neg c28] at h
      refine hr_aload_n hC dX13_compared_52 rfl ?_
      refine hr_iload hC dX13_compared_53 rfl ?_
      refine hr_iload hC dX13_compared_55 rfl ?_
      obtain ⟨r29, e30, h⟩ := hx_bind h
      refine hs_callV hC 14 [_, _] _ dX13_compared_57 q2203 q2205 qs127 q327 q2206 np_X13 rfl OB_14 pd_X13_copy (Nat.le_of_ble_eq_true rfl) hd1 (okX13_copy l E A (d - 1)  (by omega)  e30 am11) (hc_rb rfl) rfl (fun am31 ha32 => ?_)
      refine hr_goto hC 65 dX13_compared_60 (by decide) ?_
      obtain rfl := Option.some.inj h
      exact hr_sub _ rfl (J21 am31)
/-- HomeCompiler$Generator.truth(II)I -/
def bd_X13_truth (n : Nat) (k0 : Nat) (rec : Nat → List Int32 → hc_St → Option (Int32 × hc_St)) (x1 : Int32) (x2 : Int32) (σ : hc_St) : Option (Int32 × hc_St) := Option.bind (fm_X12_label  σ) fun r1 => Option.bind (fm_X12_label  r1.2) fun r5 => Option.bind (rec 7 [x1, r1.1, 0, x2] r5.2) fun r9 => Option.bind (fm_X13_dest x2 r9.2) fun r13 => Option.bind (fm_X12_set r13 1 r9.2) fun r17 => Option.bind (fm_X12_jump 0 r5.1 r17) fun r21 => Option.bind (fm_X12_here r1.1 r21) fun r25 => Option.bind (fm_X13_dest x2 r25) fun r29 => Option.bind (fm_X12_set r29 0 r25) fun r33 => Option.bind (fm_X12_here r5.1 r33) fun r37 => Option.bind (fm_X13_keep x2 r37) fun r41 => some (r41.1, r41.2)
set_option maxRecDepth 20000 in
set_option maxHeartbeats 4000000 in
theorem okbX13_truth (l : Launch) (E : hc_E) (A : Nat → Prop) (d : Nat) {kk : Nat} (n : Nat) (k0 : Nat) (rec : Nat → List Int32 → hc_St → Option (Int32 × hc_St)) (hD : kk + 1 * k0 + 13 ≤ d) (IH : ∀ (w : Nat) (a : List Int32) (σ : hc_St) (r : (Int32 × hc_St)), rec w a σ = some r → ∀ am, okg_X13_value l E A (d - 1) am w a σ r) {x1 : Int32} {x2 : Int32} {σ : hc_St} {r : (Int32 × hc_St)} (h : bd_X13_truth n k0 rec x1 x2 σ = some r) (am : Nat → Nat → Nat) : hc_M l hc_V0 yX13_truth (ws_ yX13_truth cX13_truth 5 (some .int)) d E A [.ref (E.2.1 14), .int x1, .int x2] am [13] σ (.inl (some (.int r.1))) r.2 := by
  have hd1 : 1 ≤ d := by omega
  have hd8 : 9 ≤ d := by omega
  have hd12 : 12 ≤ d := by omega
  refine hc_enter2 (own := RX13) [(0, .ref (E.2.1 14)), (1, .int x1), (2, .int x2)] pl_X13 rfl hc_V0_st hc_G0_nd rfl (Nat.le_of_ble_eq_true rfl) (fun X hC hem => ?_)
  unfold bd_X13_truth at h
  refine hr_aload_n hC dX13_truth_0 rfl ?_
  refine hr_gO 13 hC F14_5 rfl dX13_truth_1 q800 ?_
  obtain ⟨r1, e2, h⟩ := hx_bind h
  refine hs_callV hC 13 [] _ dX13_truth_4 q1888 q1889 q1890 q326 q1891 np_X12 rfl OB_13 pd_X12_label (Nat.le_of_ble_eq_true rfl) hd1 (okX12_label l E A (d - 1)  (by omega)  e2 am) (hc_rb rfl) rfl (fun am3 ha4 => ?_)
  refine hr_istore_n hC dX13_truth_7 (by decide) ?_
  refine hr_aload_n hC dX13_truth_8 rfl ?_
  refine hr_gO 13 hC F14_5 rfl dX13_truth_9 q800 ?_
  obtain ⟨r5, e6, h⟩ := hx_bind h
  refine hs_callV hC 13 [] _ dX13_truth_12 q1888 q1889 q1890 q326 q1891 np_X12 rfl OB_13 pd_X12_label (Nat.le_of_ble_eq_true rfl) hd1 (okX12_label l E A (d - 1)  (by omega)  e6 am3) (hc_rb rfl) rfl (fun am7 ha8 => ?_)
  refine hr_istore hC dX13_truth_15 (by decide) ?_
  refine hr_aload_n hC dX13_truth_17 rfl ?_
  refine hr_iload_n hC dX13_truth_18 rfl ?_
  refine hr_iload_n hC dX13_truth_19 rfl ?_
  refine hr_iconst (v := 0) hC dX13_truth_20 rfl ?_
  refine hr_iload_n hC dX13_truth_21 rfl ?_
  obtain ⟨r9, e10, h⟩ := hx_bind h
  refine hs_callV hC 14 [_, _, _, _] _ dX13_truth_22 q2270 q2272 qs142 q327 q2273 np_X13 rfl OB_14 pd_X13_branch (Nat.le_of_ble_eq_true rfl) hd1 (IH _ _ _ _ e10 am7) (hc_rb rfl) rfl (fun am11 ha12 => ?_)
  refine hr_aload_n hC dX13_truth_25 rfl ?_
  refine hr_gO 13 hC F14_5 rfl dX13_truth_26 q800 ?_
  refine hr_aload_n hC dX13_truth_29 rfl ?_
  refine hr_iload_n hC dX13_truth_30 rfl ?_
  obtain ⟨r13, e14, h⟩ := hx_bind h
  refine hs_callV0 hC 14 [_] _ dX13_truth_31 q2135 q2137 qs115 q327 q2138 np_X13 rfl OB_14 pd_X13_dest (Nat.le_of_ble_eq_true rfl) hd1 (okX13_dest l E A (d - 1)  (by omega)  e14 am11) rfl ?_
  refine hr_iconst (v := 1) hC dX13_truth_34 rfl ?_
  obtain ⟨r17, e18, h⟩ := hx_bind h
  refine hs_callV hC 13 [_, _] _ dX13_truth_35 q1908 q1909 q1910 q326 q1911 np_X12 rfl OB_13 pd_X12_set (Nat.le_of_ble_eq_true rfl) hd1 (okX12_set l E A (d - 1)  (by omega)  e18 am11) (hc_rb rfl) rfl (fun am19 ha20 => ?_)
  refine hr_aload_n hC dX13_truth_38 rfl ?_
  refine hr_gO 13 hC F14_5 rfl dX13_truth_39 q800 ?_
  refine hr_iconst (v := 0) hC dX13_truth_42 rfl ?_
  refine hr_iload hC dX13_truth_43 rfl ?_
  obtain ⟨r21, e22, h⟩ := hx_bind h
  refine hs_callV hC 13 [_, _] _ dX13_truth_45 q1904 q1905 q1906 q326 q1907 np_X12 rfl OB_13 pd_X12_jump (Nat.le_of_ble_eq_true rfl) hd1 (okX12_jump l E A (d - 1)  (by omega)  e22 am19) (hc_rb rfl) rfl (fun am23 ha24 => ?_)
  refine hr_aload_n hC dX13_truth_48 rfl ?_
  refine hr_gO 13 hC F14_5 rfl dX13_truth_49 q800 ?_
  refine hr_iload_n hC dX13_truth_52 rfl ?_
  obtain ⟨r25, e26, h⟩ := hx_bind h
  refine hs_callV0 hC 13 [_] _ dX13_truth_53 q1927 q1928 q1929 q326 q1930 np_X12 rfl OB_13 pd_X12_here (Nat.le_of_ble_eq_true rfl) hd1 (okX12_here l E A (d - 1)  (by omega)  e26 am23) rfl ?_
  refine hr_aload_n hC dX13_truth_56 rfl ?_
  refine hr_gO 13 hC F14_5 rfl dX13_truth_57 q800 ?_
  refine hr_aload_n hC dX13_truth_60 rfl ?_
  refine hr_iload_n hC dX13_truth_61 rfl ?_
  obtain ⟨r29, e30, h⟩ := hx_bind h
  refine hs_callV0 hC 14 [_] _ dX13_truth_62 q2135 q2137 qs115 q327 q2138 np_X13 rfl OB_14 pd_X13_dest (Nat.le_of_ble_eq_true rfl) hd1 (okX13_dest l E A (d - 1)  (by omega)  e30 am23) rfl ?_
  refine hr_iconst (v := 0) hC dX13_truth_65 rfl ?_
  obtain ⟨r33, e34, h⟩ := hx_bind h
  refine hs_callV hC 13 [_, _] _ dX13_truth_66 q1908 q1909 q1910 q326 q1911 np_X12 rfl OB_13 pd_X12_set (Nat.le_of_ble_eq_true rfl) hd1 (okX12_set l E A (d - 1)  (by omega)  e34 am23) (hc_rb rfl) rfl (fun am35 ha36 => ?_)
  refine hr_aload_n hC dX13_truth_69 rfl ?_
  refine hr_gO 13 hC F14_5 rfl dX13_truth_70 q800 ?_
  refine hr_iload hC dX13_truth_73 rfl ?_
  obtain ⟨r37, e38, h⟩ := hx_bind h
  refine hs_callV0 hC 13 [_] _ dX13_truth_75 q1927 q1928 q1929 q326 q1930 np_X12 rfl OB_13 pd_X12_here (Nat.le_of_ble_eq_true rfl) hd1 (okX12_here l E A (d - 1)  (by omega)  e38 am35) rfl ?_
  refine hr_aload_n hC dX13_truth_78 rfl ?_
  refine hr_iload_n hC dX13_truth_79 rfl ?_
  obtain ⟨r41, e42, h⟩ := hx_bind h
  refine hs_callV hC 14 [_] _ dX13_truth_80 q2142 q2144 qs116 q327 q2145 np_X13 rfl OB_14 pd_X13_keep (Nat.le_of_ble_eq_true rfl) hd1 (okX13_keep l E A (d - 1)  (by omega)  e42 am35) (hc_rb rfl) rfl (fun am43 ha44 => ?_)
  obtain rfl := Option.some.inj h
  exact hr_iret hC dX13_truth_83
def lp_X13_chain_17 (n : Nat) (k0 : Nat) (rec : Nat → List Int32 → hc_St → Option (Int32 × hc_St)) : Nat → Int32 → Int32 → Int32 → hc_St → Option (hc_St × Int32)
  | 0, _, _, _, _ => none
  | m + 1, y2, y3, y4, σ => if y4 = (-1) then (some (σ, y3)) else (Option.bind (fm_X6_first y4 σ) fun r11 => Option.bind (fm_X6_op y4 σ) fun r15 => Option.bind (fm_X14_isNumber n k0 r11 σ) fun r19 => Option.bind (α := hc_St) (if r19.1 = 0 then (Option.bind (fm_X13_isHome y3 y2 r19.2) fun r29 => Option.bind (α := hc_St × Int32) (if r29 = 0 then (some (r19.2, y3)) else (Option.bind (fm_X14_changes n k0 r11 r19.2) fun r39 => if r39.1 = 0 then (some (r39.2, y3)) else (Option.bind (fm_X13_copy y3 y2 r39.2) fun r45 => some (r45.2, r45.1)))) fun r35 => Option.bind (rec 0 [r11, ((y2 + 1))] r35.1) fun r50 => Option.bind (fm_X13_use r35.2 5 r50.2) fun r54 => Option.bind (fm_X13_dest y2 r54.2) fun r58 => Option.bind (fm_X13_use r50.1 6 r54.2) fun r62 => Option.bind (fm_X13_reckon r15 r58 r54.1 r62.1 r62.2) fun r66 => some (r66)) else (Option.bind (fm_X14_value  r19.2) fun r70 => Option.bind (fm_X13_isShort r15 r70 r19.2) fun r74 => if r74 = 0 then (Option.bind (fm_X13_isHome y3 y2 r19.2) fun r80 => Option.bind (α := hc_St × Int32) (if r80 = 0 then (some (r19.2, y3)) else (Option.bind (fm_X14_changes n k0 r11 r19.2) fun r90 => if r90.1 = 0 then (some (r90.2, y3)) else (Option.bind (fm_X13_copy y3 y2 r90.2) fun r96 => some (r96.2, r96.1)))) fun r86 => Option.bind (rec 0 [r11, ((y2 + 1))] r86.1) fun r101 => Option.bind (fm_X13_use r86.2 5 r101.2) fun r105 => Option.bind (fm_X13_dest y2 r105.2) fun r109 => Option.bind (fm_X13_use r101.1 6 r105.2) fun r113 => Option.bind (fm_X13_reckon r15 r109 r105.1 r113.1 r113.2) fun r117 => some (r117)) else (Option.bind (fm_X14_value  r19.2) fun r121 => Option.bind (fm_X13_dest y2 r19.2) fun r125 => Option.bind (fm_X13_use y3 5 r19.2) fun r129 => Option.bind (fm_X13_withNumber n r15 r125 r129.1 r121 r129.2) fun r133 => some (r133)))) fun r25 => Option.bind (fm_X13_keep y2 r25) fun r138 => Option.bind (fm_X6_next y4 r138.2) fun r142 => lp_X13_chain_17 n k0 rec m y2 r138.1 r142 r138.2)
/-- HomeCompiler$Generator.chain(II)I -/
def bd_X13_chain (n : Nat) (k0 : Nat) (rec : Nat → List Int32 → hc_St → Option (Int32 × hc_St)) (x1 : Int32) (x2 : Int32) (σ : hc_St) : Option (Int32 × hc_St) := Option.bind (rec 0 [x1, x2] σ) fun r1 => Option.bind (fm_X6_next x1 r1.2) fun r5 => Option.bind (lp_X13_chain_17 n k0 rec n x2 r1.1 r5 r1.2) fun r146 => some (r146.2, r146.1)
set_option maxRecDepth 20000 in
set_option maxHeartbeats 4000000 in
theorem ll_X13_chain_17 {l : Launch} {E : hc_E} {A : Nat → Prop} {am : Nat → Nat → Nat} {d : Nat} {kk : Nat} {X : hc_X} (n : Nat) (k0 : Nat) (rec : Nat → List Int32 → hc_St → Option (Int32 × hc_St)) (hD : kk + 1 * k0 + 13 ≤ d) (hem : X.2.2.2.2.2.2.2.2.2.1.exceptionTable.isEmpty = true) (IH : ∀ (w : Nat) (a : List Int32) (σ : hc_St) (r : (Int32 × hc_St)), rec w a σ = some r → ∀ am, okg_X13_value l E A (d - 1) am w a σ r) {oc : hc_Oc} {σe : hc_St} (hC : hc_C hc_V0 E cX13_chain 9 RX13 (some .int) d oc σe (l, A, am, [13]) X) : ∀ (m : Nat) (σ : hc_St) (y2 : Int32) (y3 : Int32) (y4 : Int32) (rl : hc_St × Int32), lp_X13_chain_17 n k0 rec m y2 y3 y4 σ = some rl → (∀ am1, hc_At hc_V0 E 9 X 194 [(3, .int rl.2)] [] rl.1 am1 []) → ∀ am1, hc_At hc_V0 E 9 X 17 [(0, .ref (E.2.1 14)), (2, .int y2), (3, .int y3), (4, .int y4)] [] σ am1 [] := by
  have hd1 : 1 ≤ d := by omega
  have hd8 : 9 ≤ d := by omega
  have hd12 : 12 ≤ d := by omega
  intro m
  induction m with
  | zero =>
    intro σ y2 y3 y4 rl h
    cases h
  | succ m ih =>
    intro σ y2 y3 y4 rl h JX am1
    rw [lp_X13_chain_17] at h
    refine hr_iload hC dX13_chain_17 rfl ?_
    refine hr_iconst (v := (-1)) hC dX13_chain_19 rfl ?_
    refine hr_icmp_eq (x := _) hC 194 dX13_chain_20 (by decide) (fun c10 => ?_) (fun c10 => ?_)
    · rw [if_pos c10] at h
      obtain rfl := Option.some.inj h
      exact hr_sub _ rfl (JX am1)
    · rw [if_neg c10] at h
      refine hr_aload_n hC dX13_chain_23 rfl ?_
      refine hr_gO 6 hC F14_0 rfl dX13_chain_24 q795 ?_
      refine hr_iload hC dX13_chain_27 rfl ?_
      obtain ⟨r11, e12, h⟩ := hx_bind h
      refine hs_callV0 hC 6 [_] _ dX13_chain_29 q2048 q1576 q1577 q320 q1578 np_X6 rfl OB_6 pd_X6_first (Nat.le_of_ble_eq_true rfl) hd1 (okX6_first l E A (d - 1)  (by omega)  e12 am1) rfl ?_
      refine hr_istore hC dX13_chain_32 (by decide) ?_
      refine hr_aload_n hC dX13_chain_34 rfl ?_
      refine hr_gO 6 hC F14_0 rfl dX13_chain_35 q795 ?_
      refine hr_iload hC dX13_chain_38 rfl ?_
      obtain ⟨r15, e16, h⟩ := hx_bind h
      refine hs_callV0 hC 6 [_] _ dX13_chain_40 q1978 q1639 q1640 q320 q1641 np_X6 rfl OB_6 pd_X6_op (Nat.le_of_ble_eq_true rfl) hd1 (okX6_op l E A (d - 1)  (by omega)  e16 am1) rfl ?_
      refine hr_istore hC dX13_chain_43 (by decide) ?_
      refine hr_aload_n hC dX13_chain_45 rfl ?_
      refine hr_gO 15 hC F14_6 rfl dX13_chain_46 q801 ?_
      refine hr_iload hC dX13_chain_49 rfl ?_
      obtain ⟨r19, e20, h⟩ := hx_bind h
      refine hs_callV0 hC 15 [_] _ dX13_chain_51 q2105 q2106 q2107 q328 q2108 np_X14 rfl OB_15 pd_X14_isNumber (Nat.le_of_ble_eq_true rfl) hd1 (okX14_isNumber l E A (d - 1) n k0 (by omega)  e20 am1) rfl ?_
      obtain ⟨r25, e26, h⟩ := hx_bind h
      have J27 : ∀ am137, hc_At hc_V0 E 9 X 174 [(0, .ref (E.2.1 14)), (2, .int y2), (4, .int y4)] [] r25 am137 [] := by
        intro am137
        refine hr_aload_n hC dX13_chain_174 rfl ?_
        refine hr_iload_n hC dX13_chain_175 rfl ?_
        obtain ⟨r138, e139, h⟩ := hx_bind h
        refine hs_callV hC 14 [_] _ dX13_chain_176 q2142 q2144 qs116 q327 q2145 np_X13 rfl OB_14 pd_X13_keep (Nat.le_of_ble_eq_true rfl) hd1 (okX13_keep l E A (d - 1)  (by omega)  e139 am137) (hc_rb rfl) rfl (fun am140 ha141 => ?_)
        refine hr_istore_n hC dX13_chain_179 (by decide) ?_
        refine hr_aload_n hC dX13_chain_180 rfl ?_
        refine hr_gO 6 hC F14_0 rfl dX13_chain_181 q795 ?_
        refine hr_iload hC dX13_chain_184 rfl ?_
        obtain ⟨r142, e143, h⟩ := hx_bind h
        refine hs_callV0 hC 6 [_] _ dX13_chain_186 q2068 q1603 q1604 q320 q1605 np_X6 rfl OB_6 pd_X6_next (Nat.le_of_ble_eq_true rfl) hd1 (okX6_next l E A (d - 1)  (by omega)  e143 am140) rfl ?_
        refine hr_istore hC dX13_chain_189 (by decide) ?_
        refine hr_goto hC 17 dX13_chain_191 (by decide) ?_
        exact hr_sub _ rfl (ih _ _ _ _ _ h JX am140)
      clear h
      have h := e26
      refine hr_if_eq (x := _) hC 103 dX13_chain_54 (by decide) (fun c24 => ?_) (fun c24 => ?_)
      · rw [if_pos c24] at h
        refine hr_iload_n hC dX13_chain_103 rfl ?_
        refine hr_iload_n hC dX13_chain_104 rfl ?_
        obtain ⟨r29, e30, h⟩ := hx_bind h
        refine hs_callS0 hC [_, _] _ dX13_chain_105 q2195 q2196 q327 q2197 np_X13 rfl pd_X13_isHome (Nat.le_of_ble_eq_true rfl) hd1 (okX13_isHome l E A (d - 1)  (by omega)  e30 am1) rfl ?_
        obtain ⟨r35, e36, h⟩ := hx_bind h
        have J37 : ∀ am49, hc_At hc_V0 E 9 X 133 [(0, .ref (E.2.1 14)), (2, .int y2), (4, .int y4), (5, .int r11), (6, .int r15)] [.int r35.2] r35.1 am49 [] := by
          intro am49
          refine hr_istore_n hC dX13_chain_133 (by decide) ?_
          refine hr_aload_n hC dX13_chain_134 rfl ?_
          refine hr_iload hC dX13_chain_135 rfl ?_
          refine hr_iload_n hC dX13_chain_137 rfl ?_
          refine hr_iconst (v := 1) hC dX13_chain_138 rfl ?_
          refine hr_iadd hC dX13_chain_139 ?_
          obtain ⟨r50, e51, h⟩ := hx_bind h
          refine hs_callV hC 14 [_, _] _ dX13_chain_140 q2101 q2103 qs112 q327 q2104 np_X13 rfl OB_14 pd_X13_value (Nat.le_of_ble_eq_true rfl) hd1 (IH _ _ _ _ e51 am49) (hc_rb rfl) rfl (fun am52 ha53 => ?_)
          refine hr_istore hC dX13_chain_143 (by decide) ?_
          refine hr_aload_n hC dX13_chain_145 rfl ?_
          refine hr_iload_n hC dX13_chain_146 rfl ?_
          refine hr_iconst (v := 5) hC dX13_chain_147 rfl ?_
          obtain ⟨r54, e55, h⟩ := hx_bind h
          refine hs_callV hC 14 [_, _] _ dX13_chain_148 q2167 q2169 qs121 q327 q2170 np_X13 rfl OB_14 pd_X13_use (Nat.le_of_ble_eq_true rfl) hd1 (okX13_use l E A (d - 1)  (by omega)  e55 am52) (hc_rb rfl) rfl (fun am56 ha57 => ?_)
          refine hr_istore hC dX13_chain_151 (by decide) ?_
          refine hr_aload_n hC dX13_chain_153 rfl ?_
          refine hr_iload hC dX13_chain_154 rfl ?_
          refine hr_aload_n hC dX13_chain_156 rfl ?_
          refine hr_iload_n hC dX13_chain_157 rfl ?_
          obtain ⟨r58, e59, h⟩ := hx_bind h
          refine hs_callV0 hC 14 [_] _ dX13_chain_158 q2135 q2137 qs115 q327 q2138 np_X13 rfl OB_14 pd_X13_dest (Nat.le_of_ble_eq_true rfl) hd1 (okX13_dest l E A (d - 1)  (by omega)  e59 am56) rfl ?_
          refine hr_iload hC dX13_chain_161 rfl ?_
          refine hr_aload_n hC dX13_chain_163 rfl ?_
          refine hr_iload hC dX13_chain_164 rfl ?_
          refine hr_bipush (v := 6) hC dX13_chain_166 rfl ?_
          obtain ⟨r62, e63, h⟩ := hx_bind h
          refine hs_callV hC 14 [_, _] _ dX13_chain_168 q2167 q2169 qs121 q327 q2170 np_X13 rfl OB_14 pd_X13_use (Nat.le_of_ble_eq_true rfl) hd1 (okX13_use l E A (d - 1)  (by omega)  e63 am56) (hc_rb rfl) rfl (fun am64 ha65 => ?_)
          obtain ⟨r66, e67, h⟩ := hx_bind h
          refine hs_callV hC 14 [_, _, _, _] _ dX13_chain_171 q2234 q2236 qs133 q327 q2237 np_X13 rfl OB_14 pd_X13_reckon (Nat.le_of_ble_eq_true rfl) hd1 (okX13_reckon l E A (d - 1)  (by omega)  e67 am64) (hc_rb rfl) rfl (fun am68 ha69 => ?_)
          obtain rfl := Option.some.inj h
          exact hr_sub _ rfl (J27 am68)
        clear h
        have h := e36
        refine hr_if_eq (x := _) hC 132 dX13_chain_108 (by decide) (fun c34 => ?_) (fun c34 => ?_)
        · rw [if_pos c34] at h
          refine hr_iload_n hC dX13_chain_132 rfl ?_
          obtain rfl := Option.some.inj h
          exact hr_sub _ rfl (J37 am1)
        · rw [if_neg c34] at h
          refine hr_aload_n hC dX13_chain_111 rfl ?_
          refine hr_gO 15 hC F14_6 rfl dX13_chain_112 q801 ?_
          refine hr_iload hC dX13_chain_115 rfl ?_
          obtain ⟨r39, e40, h⟩ := hx_bind h
          refine hs_callV0 hC 15 [_] _ dX13_chain_117 q2198 q2199 q2200 q328 q2201 np_X14 rfl OB_15 pd_X14_changes (Nat.le_of_ble_eq_true rfl) hd1 (okX14_changes l E A (d - 1) n k0 (by omega)  e40 am1) rfl ?_
          refine hr_if_eq (x := _) hC 132 dX13_chain_120 (by decide) (fun c44 => ?_) (fun c44 => ?_)
          · rw [if_pos c44] at h
            refine hr_iload_n hC dX13_chain_132 rfl ?_
            obtain rfl := Option.some.inj h
            exact hr_sub _ rfl (J37 am1)
          · rw [if_neg c44] at h
            refine hr_aload_n hC dX13_chain_123 rfl ?_
            refine hr_iload_n hC dX13_chain_124 rfl ?_
            refine hr_iload_n hC dX13_chain_125 rfl ?_
            obtain ⟨r45, e46, h⟩ := hx_bind h
            refine hs_callV hC 14 [_, _] _ dX13_chain_126 q2203 q2205 qs127 q327 q2206 np_X13 rfl OB_14 pd_X13_copy (Nat.le_of_ble_eq_true rfl) hd1 (okX13_copy l E A (d - 1)  (by omega)  e46 am1) (hc_rb rfl) rfl (fun am47 ha48 => ?_)
            refine hr_goto hC 133 dX13_chain_129 (by decide) ?_
            obtain rfl := Option.some.inj h
            exact hr_sub _ rfl (J37 am47)
      · rw [if_neg c24] at h
        refine hr_iload hC dX13_chain_57 rfl ?_
        refine hr_aload_n hC dX13_chain_59 rfl ?_
        refine hr_gO 15 hC F14_6 rfl dX13_chain_60 q801 ?_
        obtain ⟨r70, e71, h⟩ := hx_bind h
        refine hs_callV0 hC 15 [] _ dX13_chain_63 q2131 q2132 q2133 q328 q2134 np_X14 rfl OB_15 pd_X14_value (Nat.le_of_ble_eq_true rfl) hd1 (okX14_value l E A (d - 1)  (by omega)  e71 am1) rfl ?_
        obtain ⟨r74, e75, h⟩ := hx_bind h
        refine hs_callS0 hC [_, _] _ dX13_chain_66 q2290 q2291 q327 q2292 np_X13 rfl pd_X13_isShort (Nat.le_of_ble_eq_true rfl) hd1 (okX13_isShort l E A (d - 1)  (by omega)  e75 am1) rfl ?_
        refine hr_if_eq (x := _) hC 103 dX13_chain_69 (by decide) (fun c79 => ?_) (fun c79 => ?_)
        · rw [if_pos c79] at h
          refine hr_iload_n hC dX13_chain_103 rfl ?_
          refine hr_iload_n hC dX13_chain_104 rfl ?_
          obtain ⟨r80, e81, h⟩ := hx_bind h
          refine hs_callS0 hC [_, _] _ dX13_chain_105 q2195 q2196 q327 q2197 np_X13 rfl pd_X13_isHome (Nat.le_of_ble_eq_true rfl) hd1 (okX13_isHome l E A (d - 1)  (by omega)  e81 am1) rfl ?_
          obtain ⟨r86, e87, h⟩ := hx_bind h
          have J88 : ∀ am100, hc_At hc_V0 E 9 X 133 [(0, .ref (E.2.1 14)), (2, .int y2), (4, .int y4), (5, .int r11), (6, .int r15)] [.int r86.2] r86.1 am100 [] := by
            intro am100
            refine hr_istore_n hC dX13_chain_133 (by decide) ?_
            refine hr_aload_n hC dX13_chain_134 rfl ?_
            refine hr_iload hC dX13_chain_135 rfl ?_
            refine hr_iload_n hC dX13_chain_137 rfl ?_
            refine hr_iconst (v := 1) hC dX13_chain_138 rfl ?_
            refine hr_iadd hC dX13_chain_139 ?_
            obtain ⟨r101, e102, h⟩ := hx_bind h
            refine hs_callV hC 14 [_, _] _ dX13_chain_140 q2101 q2103 qs112 q327 q2104 np_X13 rfl OB_14 pd_X13_value (Nat.le_of_ble_eq_true rfl) hd1 (IH _ _ _ _ e102 am100) (hc_rb rfl) rfl (fun am103 ha104 => ?_)
            refine hr_istore hC dX13_chain_143 (by decide) ?_
            refine hr_aload_n hC dX13_chain_145 rfl ?_
            refine hr_iload_n hC dX13_chain_146 rfl ?_
            refine hr_iconst (v := 5) hC dX13_chain_147 rfl ?_
            obtain ⟨r105, e106, h⟩ := hx_bind h
            refine hs_callV hC 14 [_, _] _ dX13_chain_148 q2167 q2169 qs121 q327 q2170 np_X13 rfl OB_14 pd_X13_use (Nat.le_of_ble_eq_true rfl) hd1 (okX13_use l E A (d - 1)  (by omega)  e106 am103) (hc_rb rfl) rfl (fun am107 ha108 => ?_)
            refine hr_istore hC dX13_chain_151 (by decide) ?_
            refine hr_aload_n hC dX13_chain_153 rfl ?_
            refine hr_iload hC dX13_chain_154 rfl ?_
            refine hr_aload_n hC dX13_chain_156 rfl ?_
            refine hr_iload_n hC dX13_chain_157 rfl ?_
            obtain ⟨r109, e110, h⟩ := hx_bind h
            refine hs_callV0 hC 14 [_] _ dX13_chain_158 q2135 q2137 qs115 q327 q2138 np_X13 rfl OB_14 pd_X13_dest (Nat.le_of_ble_eq_true rfl) hd1 (okX13_dest l E A (d - 1)  (by omega)  e110 am107) rfl ?_
            refine hr_iload hC dX13_chain_161 rfl ?_
            refine hr_aload_n hC dX13_chain_163 rfl ?_
            refine hr_iload hC dX13_chain_164 rfl ?_
            refine hr_bipush (v := 6) hC dX13_chain_166 rfl ?_
            obtain ⟨r113, e114, h⟩ := hx_bind h
            refine hs_callV hC 14 [_, _] _ dX13_chain_168 q2167 q2169 qs121 q327 q2170 np_X13 rfl OB_14 pd_X13_use (Nat.le_of_ble_eq_true rfl) hd1 (okX13_use l E A (d - 1)  (by omega)  e114 am107) (hc_rb rfl) rfl (fun am115 ha116 => ?_)
            obtain ⟨r117, e118, h⟩ := hx_bind h
            refine hs_callV hC 14 [_, _, _, _] _ dX13_chain_171 q2234 q2236 qs133 q327 q2237 np_X13 rfl OB_14 pd_X13_reckon (Nat.le_of_ble_eq_true rfl) hd1 (okX13_reckon l E A (d - 1)  (by omega)  e118 am115) (hc_rb rfl) rfl (fun am119 ha120 => ?_)
            obtain rfl := Option.some.inj h
            exact hr_sub _ rfl (J27 am119)
          clear h
          have h := e87
          refine hr_if_eq (x := _) hC 132 dX13_chain_108 (by decide) (fun c85 => ?_) (fun c85 => ?_)
          · rw [if_pos c85] at h
            refine hr_iload_n hC dX13_chain_132 rfl ?_
            obtain rfl := Option.some.inj h
            exact hr_sub _ rfl (J88 am1)
          · rw [if_neg c85] at h
            refine hr_aload_n hC dX13_chain_111 rfl ?_
            refine hr_gO 15 hC F14_6 rfl dX13_chain_112 q801 ?_
            refine hr_iload hC dX13_chain_115 rfl ?_
            obtain ⟨r90, e91, h⟩ := hx_bind h
            refine hs_callV0 hC 15 [_] _ dX13_chain_117 q2198 q2199 q2200 q328 q2201 np_X14 rfl OB_15 pd_X14_changes (Nat.le_of_ble_eq_true rfl) hd1 (okX14_changes l E A (d - 1) n k0 (by omega)  e91 am1) rfl ?_
            refine hr_if_eq (x := _) hC 132 dX13_chain_120 (by decide) (fun c95 => ?_) (fun c95 => ?_)
            · rw [if_pos c95] at h
              refine hr_iload_n hC dX13_chain_132 rfl ?_
              obtain rfl := Option.some.inj h
              exact hr_sub _ rfl (J88 am1)
            · rw [if_neg c95] at h
              refine hr_aload_n hC dX13_chain_123 rfl ?_
              refine hr_iload_n hC dX13_chain_124 rfl ?_
              refine hr_iload_n hC dX13_chain_125 rfl ?_
              obtain ⟨r96, e97, h⟩ := hx_bind h
              refine hs_callV hC 14 [_, _] _ dX13_chain_126 q2203 q2205 qs127 q327 q2206 np_X13 rfl OB_14 pd_X13_copy (Nat.le_of_ble_eq_true rfl) hd1 (okX13_copy l E A (d - 1)  (by omega)  e97 am1) (hc_rb rfl) rfl (fun am98 ha99 => ?_)
              refine hr_goto hC 133 dX13_chain_129 (by decide) ?_
              obtain rfl := Option.some.inj h
              exact hr_sub _ rfl (J88 am98)
        · rw [if_neg c79] at h
          refine hr_aload_n hC dX13_chain_72 rfl ?_
          refine hr_gO 15 hC F14_6 rfl dX13_chain_73 q801 ?_
          obtain ⟨r121, e122, h⟩ := hx_bind h
          refine hs_callV0 hC 15 [] _ dX13_chain_76 q2131 q2132 q2133 q328 q2134 np_X14 rfl OB_15 pd_X14_value (Nat.le_of_ble_eq_true rfl) hd1 (okX14_value l E A (d - 1)  (by omega)  e122 am1) rfl ?_
          refine hr_istore hC dX13_chain_79 (by decide) ?_
          refine hr_aload_n hC dX13_chain_81 rfl ?_
          refine hr_iload hC dX13_chain_82 rfl ?_
          refine hr_aload_n hC dX13_chain_84 rfl ?_
          refine hr_iload_n hC dX13_chain_85 rfl ?_
          obtain ⟨r125, e126, h⟩ := hx_bind h
          refine hs_callV0 hC 14 [_] _ dX13_chain_86 q2135 q2137 qs115 q327 q2138 np_X13 rfl OB_14 pd_X13_dest (Nat.le_of_ble_eq_true rfl) hd1 (okX13_dest l E A (d - 1)  (by omega)  e126 am1) rfl ?_
          refine hr_aload_n hC dX13_chain_89 rfl ?_
          refine hr_iload_n hC dX13_chain_90 rfl ?_
          refine hr_iconst (v := 5) hC dX13_chain_91 rfl ?_
          obtain ⟨r129, e130, h⟩ := hx_bind h
          refine hs_callV hC 14 [_, _] _ dX13_chain_92 q2167 q2169 qs121 q327 q2170 np_X13 rfl OB_14 pd_X13_use (Nat.le_of_ble_eq_true rfl) hd1 (okX13_use l E A (d - 1)  (by omega)  e130 am1) (hc_rb rfl) rfl (fun am131 ha132 => ?_)
          refine hr_iload hC dX13_chain_95 rfl ?_
          obtain ⟨r133, e134, h⟩ := hx_bind h
          refine hs_callV hC 14 [_, _, _, _] _ dX13_chain_97 q2293 q2295 qs147 q327 q2296 np_X13 rfl OB_14 pd_X13_withNumber (Nat.le_of_ble_eq_true rfl) hd1 (okX13_withNumber l E A (d - 1) n (by omega)  e134 am131) (hc_rb rfl) rfl (fun am135 ha136 => ?_)
          refine hr_goto hC 174 dX13_chain_100 (by decide) ?_
          obtain rfl := Option.some.inj h
          exact hr_sub _ rfl (J27 am135)
set_option maxRecDepth 20000 in
set_option maxHeartbeats 4000000 in
theorem okbX13_chain (l : Launch) (E : hc_E) (A : Nat → Prop) (d : Nat) {kk : Nat} (n : Nat) (k0 : Nat) (rec : Nat → List Int32 → hc_St → Option (Int32 × hc_St)) (hD : kk + 1 * k0 + 13 ≤ d) (IH : ∀ (w : Nat) (a : List Int32) (σ : hc_St) (r : (Int32 × hc_St)), rec w a σ = some r → ∀ am, okg_X13_value l E A (d - 1) am w a σ r) {x1 : Int32} {x2 : Int32} {σ : hc_St} {r : (Int32 × hc_St)} (h : bd_X13_chain n k0 rec x1 x2 σ = some r) (am : Nat → Nat → Nat) : hc_M l hc_V0 yX13_chain (ws_ yX13_chain cX13_chain 9 (some .int)) d E A [.ref (E.2.1 14), .int x1, .int x2] am [13] σ (.inl (some (.int r.1))) r.2 := by
  have hd1 : 1 ≤ d := by omega
  have hd8 : 9 ≤ d := by omega
  have hd12 : 12 ≤ d := by omega
  refine hc_enter2 (own := RX13) [(0, .ref (E.2.1 14)), (1, .int x1), (2, .int x2)] pl_X13 rfl hc_V0_st hc_G0_nd rfl (Nat.le_of_ble_eq_true rfl) (fun X hC hem => ?_)
  unfold bd_X13_chain at h
  refine hr_aload_n hC dX13_chain_0 rfl ?_
  refine hr_iload_n hC dX13_chain_1 rfl ?_
  refine hr_iload_n hC dX13_chain_2 rfl ?_
  obtain ⟨r1, e2, h⟩ := hx_bind h
  refine hs_callV hC 14 [_, _] _ dX13_chain_3 q2101 q2103 qs112 q327 q2104 np_X13 rfl OB_14 pd_X13_value (Nat.le_of_ble_eq_true rfl) hd1 (IH _ _ _ _ e2 am) (hc_rb rfl) rfl (fun am3 ha4 => ?_)
  refine hr_istore_n hC dX13_chain_6 (by decide) ?_
  refine hr_aload_n hC dX13_chain_7 rfl ?_
  refine hr_gO 6 hC F14_0 rfl dX13_chain_8 q795 ?_
  refine hr_iload_n hC dX13_chain_11 rfl ?_
  obtain ⟨r5, e6, h⟩ := hx_bind h
  refine hs_callV0 hC 6 [_] _ dX13_chain_12 q2068 q1603 q1604 q320 q1605 np_X6 rfl OB_6 pd_X6_next (Nat.le_of_ble_eq_true rfl) hd1 (okX6_next l E A (d - 1)  (by omega)  e6 am3) rfl ?_
  refine hr_istore hC dX13_chain_15 (by decide) ?_
  obtain ⟨r146, e147, h⟩ := hx_bind h
  refine hr_sub _ rfl (ll_X13_chain_17 n k0 rec hD hem IH hC n _ _ _ _ _ e147 (fun am150 => ?_) am3)
  refine hr_iload_n hC dX13_chain_194 rfl ?_
  obtain rfl := Option.some.inj h
  exact hr_iret hC dX13_chain_195
def rc_X13_value (n : Nat) (k0 : Nat) : Nat → Nat → List Int32 → hc_St → Option (Int32 × hc_St)
  | 0, _, _, _ => none
  | k + 1, w, a, σ => match w with
    | 0 => bd_X13_value n k0 (rc_X13_value n k0 k) (a.getD 0 0) (a.getD 1 0) σ
    | 1 => bd_X13_call n k0 (rc_X13_value n k0 k) (a.getD 0 0) (a.getD 1 0) σ
    | 2 => bd_X13_own n k0 (rc_X13_value n k0 k) (a.getD 0 0) (a.getD 1 0) (a.getD 2 0) σ
    | 3 => bd_X13_set n k0 (rc_X13_value n k0 k) (a.getD 0 0) (a.getD 1 0) (a.getD 2 0) σ
    | 4 => bd_X13_count n k0 (rc_X13_value n k0 k) (a.getD 0 0) (a.getD 1 0) (a.getD 2 0) σ
    | 5 => bd_X13_unary n k0 (rc_X13_value n k0 k) (a.getD 0 0) (a.getD 1 0) (a.getD 2 0) σ
    | 6 => bd_X13_choice n k0 (rc_X13_value n k0 k) (a.getD 0 0) (a.getD 1 0) σ
    | 7 => bd_X13_branch n k0 (rc_X13_value n k0 k) (a.getD 0 0) (a.getD 1 0) (a.getD 2 0) (a.getD 3 0) σ
    | 8 => bd_X13_decide n k0 (rc_X13_value n k0 k) (a.getD 0 0) (a.getD 1 0) (a.getD 2 0) (a.getD 3 0) (a.getD 4 0) σ
    | 9 => bd_X13_compared n k0 (rc_X13_value n k0 k) (a.getD 0 0) (a.getD 1 0) (a.getD 2 0) (a.getD 3 0) σ
    | 10 => bd_X13_truth n k0 (rc_X13_value n k0 k) (a.getD 0 0) (a.getD 1 0) σ
    | 11 => bd_X13_chain n k0 (rc_X13_value n k0 k) (a.getD 0 0) (a.getD 1 0) σ
    | _ => none
theorem okr_X13_value (l : Launch) (E : hc_E) (A : Nat → Prop) (n : Nat) (k0 : Nat) : ∀ (k d : Nat), k + 1 * k0 + 13 ≤ d → ∀ (w : Nat) (a : List Int32) (σ : hc_St) (r : (Int32 × hc_St)), rc_X13_value n k0 k w a σ = some r → ∀ am, okg_X13_value l E A d am w a σ r
  | 0, d, _, w, a, σ, r, h, am => by cases h
  | k + 1, d, hd, w, a, σ, r, h, am => by
    have IH := okr_X13_value l E A n k0 k (d - 1) (by omega)
    match w, h with
    | 0, h => exact okbX13_value l E A d (kk := k) n k0 (rc_X13_value n k0 k) (by omega) IH h am
    | 1, h => exact okbX13_call l E A d (kk := k) n k0 (rc_X13_value n k0 k) (by omega) IH h am
    | 2, h => exact okbX13_own l E A d (kk := k) n k0 (rc_X13_value n k0 k) (by omega) IH h am
    | 3, h => exact okbX13_set l E A d (kk := k) n k0 (rc_X13_value n k0 k) (by omega) IH h am
    | 4, h => exact okbX13_count l E A d (kk := k) n k0 (rc_X13_value n k0 k) (by omega) IH h am
    | 5, h => exact okbX13_unary l E A d (kk := k) n k0 (rc_X13_value n k0 k) (by omega) IH h am
    | 6, h => exact okbX13_choice l E A d (kk := k) n k0 (rc_X13_value n k0 k) (by omega) IH h am
    | 7, h => exact okbX13_branch l E A d (kk := k) n k0 (rc_X13_value n k0 k) (by omega) IH h am
    | 8, h => exact okbX13_decide l E A d (kk := k) n k0 (rc_X13_value n k0 k) (by omega) IH h am
    | 9, h => exact okbX13_compared l E A d (kk := k) n k0 (rc_X13_value n k0 k) (by omega) IH h am
    | 10, h => exact okbX13_truth l E A d (kk := k) n k0 (rc_X13_value n k0 k) (by omega) IH h am
    | 11, h => exact okbX13_chain l E A d (kk := k) n k0 (rc_X13_value n k0 k) (by omega) IH h am
    | w + 12, h => trivial
def fm_X13_value (n : Nat) (k0 : Nat) (x1 : Int32) (x2 : Int32) (σ : hc_St) : Option (Int32 × hc_St) := rc_X13_value n k0 k0 0 [x1, x2] σ
theorem okX13_value (l : Launch) (E : hc_E) (A : Nat → Prop) (d : Nat) (n : Nat) (k0 : Nat) (hD : k0 + 1 * k0 + 13 ≤ d)  {x1 : Int32} {x2 : Int32} {σ : hc_St} {r : (Int32 × hc_St)} (h : fm_X13_value n k0 x1 x2 σ = some r) (am : Nat → Nat → Nat) : hc_M l hc_V0 yX13_value (ws_ yX13_value cX13_value 4 (some .int)) d E A [.ref (E.2.1 14), .int x1, .int x2] am [13] σ (.inl (some (.int r.1))) r.2 := okr_X13_value l E A n k0 k0 d hD 0 _ _ _ h am
def fm_X13_call (n : Nat) (k0 : Nat) (x1 : Int32) (x2 : Int32) (σ : hc_St) : Option (Int32 × hc_St) := rc_X13_value n k0 k0 1 [x1, x2] σ
theorem okX13_call (l : Launch) (E : hc_E) (A : Nat → Prop) (d : Nat) (n : Nat) (k0 : Nat) (hD : k0 + 1 * k0 + 13 ≤ d)  {x1 : Int32} {x2 : Int32} {σ : hc_St} {r : (Int32 × hc_St)} (h : fm_X13_call n k0 x1 x2 σ = some r) (am : Nat → Nat → Nat) : hc_M l hc_V0 yX13_call (ws_ yX13_call cX13_call 9 (some .int)) d E A [.ref (E.2.1 14), .int x1, .int x2] am [13] σ (.inl (some (.int r.1))) r.2 := okr_X13_value l E A n k0 k0 d hD 1 _ _ _ h am
def fm_X13_own (n : Nat) (k0 : Nat) (x1 : Int32) (x2 : Int32) (x3 : Int32) (σ : hc_St) : Option (Int32 × hc_St) := rc_X13_value n k0 k0 2 [x1, x2, x3] σ
theorem okX13_own (l : Launch) (E : hc_E) (A : Nat → Prop) (d : Nat) (n : Nat) (k0 : Nat) (hD : k0 + 1 * k0 + 13 ≤ d)  {x1 : Int32} {x2 : Int32} {x3 : Int32} {σ : hc_St} {r : (Int32 × hc_St)} (h : fm_X13_own n k0 x1 x2 x3 σ = some r) (am : Nat → Nat → Nat) : hc_M l hc_V0 yX13_own (ws_ yX13_own cX13_own 8 (some .int)) d E A [.ref (E.2.1 14), .int x1, .int x2, .int x3] am [13] σ (.inl (some (.int r.1))) r.2 := okr_X13_value l E A n k0 k0 d hD 2 _ _ _ h am
def fm_X13_set (n : Nat) (k0 : Nat) (x1 : Int32) (x2 : Int32) (x3 : Int32) (σ : hc_St) : Option (Int32 × hc_St) := rc_X13_value n k0 k0 3 [x1, x2, x3] σ
theorem okX13_set (l : Launch) (E : hc_E) (A : Nat → Prop) (d : Nat) (n : Nat) (k0 : Nat) (hD : k0 + 1 * k0 + 13 ≤ d)  {x1 : Int32} {x2 : Int32} {x3 : Int32} {σ : hc_St} {r : (Int32 × hc_St)} (h : fm_X13_set n k0 x1 x2 x3 σ = some r) (am : Nat → Nat → Nat) : hc_M l hc_V0 yX13_set (ws_ yX13_set cX13_set 10 (some .int)) d E A [.ref (E.2.1 14), .int x1, .int x2, .int x3] am [13] σ (.inl (some (.int r.1))) r.2 := okr_X13_value l E A n k0 k0 d hD 3 _ _ _ h am
def fm_X13_count (n : Nat) (k0 : Nat) (x1 : Int32) (x2 : Int32) (x3 : Int32) (σ : hc_St) : Option (Int32 × hc_St) := rc_X13_value n k0 k0 4 [x1, x2, x3] σ
theorem okX13_count (l : Launch) (E : hc_E) (A : Nat → Prop) (d : Nat) (n : Nat) (k0 : Nat) (hD : k0 + 1 * k0 + 13 ≤ d)  {x1 : Int32} {x2 : Int32} {x3 : Int32} {σ : hc_St} {r : (Int32 × hc_St)} (h : fm_X13_count n k0 x1 x2 x3 σ = some r) (am : Nat → Nat → Nat) : hc_M l hc_V0 yX13_count (ws_ yX13_count cX13_count 8 (some .int)) d E A [.ref (E.2.1 14), .int x1, .int x2, .int x3] am [13] σ (.inl (some (.int r.1))) r.2 := okr_X13_value l E A n k0 k0 d hD 4 _ _ _ h am
def fm_X13_unary (n : Nat) (k0 : Nat) (x1 : Int32) (x2 : Int32) (x3 : Int32) (σ : hc_St) : Option (Int32 × hc_St) := rc_X13_value n k0 k0 5 [x1, x2, x3] σ
theorem okX13_unary (l : Launch) (E : hc_E) (A : Nat → Prop) (d : Nat) (n : Nat) (k0 : Nat) (hD : k0 + 1 * k0 + 13 ≤ d)  {x1 : Int32} {x2 : Int32} {x3 : Int32} {σ : hc_St} {r : (Int32 × hc_St)} (h : fm_X13_unary n k0 x1 x2 x3 σ = some r) (am : Nat → Nat → Nat) : hc_M l hc_V0 yX13_unary (ws_ yX13_unary cX13_unary 6 (some .int)) d E A [.ref (E.2.1 14), .int x1, .int x2, .int x3] am [13] σ (.inl (some (.int r.1))) r.2 := okr_X13_value l E A n k0 k0 d hD 5 _ _ _ h am
def fm_X13_choice (n : Nat) (k0 : Nat) (x1 : Int32) (x2 : Int32) (σ : hc_St) : Option (Int32 × hc_St) := rc_X13_value n k0 k0 6 [x1, x2] σ
theorem okX13_choice (l : Launch) (E : hc_E) (A : Nat → Prop) (d : Nat) (n : Nat) (k0 : Nat) (hD : k0 + 1 * k0 + 13 ≤ d)  {x1 : Int32} {x2 : Int32} {σ : hc_St} {r : (Int32 × hc_St)} (h : fm_X13_choice n k0 x1 x2 σ = some r) (am : Nat → Nat → Nat) : hc_M l hc_V0 yX13_choice (ws_ yX13_choice cX13_choice 8 (some .int)) d E A [.ref (E.2.1 14), .int x1, .int x2] am [13] σ (.inl (some (.int r.1))) r.2 := okr_X13_value l E A n k0 k0 d hD 6 _ _ _ h am
def fm_X13_branch (n : Nat) (k0 : Nat) (x1 : Int32) (x2 : Int32) (x3 : Int32) (x4 : Int32) (σ : hc_St) : Option (Int32 × hc_St) := rc_X13_value n k0 k0 7 [x1, x2, x3, x4] σ
theorem okX13_branch (l : Launch) (E : hc_E) (A : Nat → Prop) (d : Nat) (n : Nat) (k0 : Nat) (hD : k0 + 1 * k0 + 13 ≤ d)  {x1 : Int32} {x2 : Int32} {x3 : Int32} {x4 : Int32} {σ : hc_St} {r : (Int32 × hc_St)} (h : fm_X13_branch n k0 x1 x2 x3 x4 σ = some r) (am : Nat → Nat → Nat) : hc_M l hc_V0 yX13_branch (ws_ yX13_branch cX13_branch 8 none) d E A [.ref (E.2.1 14), .int x1, .int x2, .int x3, .int x4] am [13] σ (.inl (none)) r.2 := okr_X13_value l E A n k0 k0 d hD 7 _ _ _ h am
def fm_X13_decide (n : Nat) (k0 : Nat) (x1 : Int32) (x2 : Int32) (x3 : Int32) (x4 : Int32) (x5 : Int32) (σ : hc_St) : Option (Int32 × hc_St) := rc_X13_value n k0 k0 8 [x1, x2, x3, x4, x5] σ
theorem okX13_decide (l : Launch) (E : hc_E) (A : Nat → Prop) (d : Nat) (n : Nat) (k0 : Nat) (hD : k0 + 1 * k0 + 13 ≤ d)  {x1 : Int32} {x2 : Int32} {x3 : Int32} {x4 : Int32} {x5 : Int32} {σ : hc_St} {r : (Int32 × hc_St)} (h : fm_X13_decide n k0 x1 x2 x3 x4 x5 σ = some r) (am : Nat → Nat → Nat) : hc_M l hc_V0 yX13_decide (ws_ yX13_decide cX13_decide 11 none) d E A [.ref (E.2.1 14), .int x1, .int x2, .int x3, .int x4, .int x5] am [13] σ (.inl (none)) r.2 := okr_X13_value l E A n k0 k0 d hD 8 _ _ _ h am
def fm_X13_compared (n : Nat) (k0 : Nat) (x1 : Int32) (x2 : Int32) (x3 : Int32) (x4 : Int32) (σ : hc_St) : Option (Int32 × hc_St) := rc_X13_value n k0 k0 9 [x1, x2, x3, x4] σ
theorem okX13_compared (l : Launch) (E : hc_E) (A : Nat → Prop) (d : Nat) (n : Nat) (k0 : Nat) (hD : k0 + 1 * k0 + 13 ≤ d)  {x1 : Int32} {x2 : Int32} {x3 : Int32} {x4 : Int32} {σ : hc_St} {r : (Int32 × hc_St)} (h : fm_X13_compared n k0 x1 x2 x3 x4 σ = some r) (am : Nat → Nat → Nat) : hc_M l hc_V0 yX13_compared (ws_ yX13_compared cX13_compared 14 none) d E A [.ref (E.2.1 14), .int x1, .int x2, .int x3, .int x4] am [13] σ (.inl (none)) r.2 := okr_X13_value l E A n k0 k0 d hD 9 _ _ _ h am
def fm_X13_truth (n : Nat) (k0 : Nat) (x1 : Int32) (x2 : Int32) (σ : hc_St) : Option (Int32 × hc_St) := rc_X13_value n k0 k0 10 [x1, x2] σ
theorem okX13_truth (l : Launch) (E : hc_E) (A : Nat → Prop) (d : Nat) (n : Nat) (k0 : Nat) (hD : k0 + 1 * k0 + 13 ≤ d)  {x1 : Int32} {x2 : Int32} {σ : hc_St} {r : (Int32 × hc_St)} (h : fm_X13_truth n k0 x1 x2 σ = some r) (am : Nat → Nat → Nat) : hc_M l hc_V0 yX13_truth (ws_ yX13_truth cX13_truth 5 (some .int)) d E A [.ref (E.2.1 14), .int x1, .int x2] am [13] σ (.inl (some (.int r.1))) r.2 := okr_X13_value l E A n k0 k0 d hD 10 _ _ _ h am
def fm_X13_chain (n : Nat) (k0 : Nat) (x1 : Int32) (x2 : Int32) (σ : hc_St) : Option (Int32 × hc_St) := rc_X13_value n k0 k0 11 [x1, x2] σ
theorem okX13_chain (l : Launch) (E : hc_E) (A : Nat → Prop) (d : Nat) (n : Nat) (k0 : Nat) (hD : k0 + 1 * k0 + 13 ≤ d)  {x1 : Int32} {x2 : Int32} {σ : hc_St} {r : (Int32 × hc_St)} (h : fm_X13_chain n k0 x1 x2 σ = some r) (am : Nat → Nat → Nat) : hc_M l hc_V0 yX13_chain (ws_ yX13_chain cX13_chain 9 (some .int)) d E A [.ref (E.2.1 14), .int x1, .int x2] am [13] σ (.inl (some (.int r.1))) r.2 := okr_X13_value l E A n k0 k0 d hD 11 _ _ _ h am
