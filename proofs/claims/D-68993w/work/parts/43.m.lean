set_option maxRecDepth 20000
/-- HomeCompiler$Generator.reckon(IIII)V -/
def fm_X13_reckon  (x1 : Int32) (x2 : Int32) (x3 : Int32) (x4 : Int32) (σ : hc_St) : Option hc_St := Option.bind (α := hc_St) (if x1 = 37 then (Option.bind (fm_X13_end 17 σ) fun r9 => Option.bind (fm_X12_branch 0 x4 0 r9 σ) fun r13 => hl (α := Int32) ((if x1 = 47 then 4 else 6)) fun v19 => Option.bind (fm_X12_both v19 1 x2 x3 x4 r13) fun r20 => some (r20)) else if x1 = 38 then (Option.bind (fm_X12_both 7 0 x2 x3 x4 σ) fun r27 => some (r27)) else if x1 = 42 then (Option.bind (fm_X12_both 0 1 x2 x3 x4 σ) fun r31 => some (r31)) else if x1 = 43 then (Option.bind (fm_X12_both 0 0 x2 x3 x4 σ) fun r35 => some (r35)) else if x1 = 45 then (Option.bind (fm_X12_both 0 32 x2 x3 x4 σ) fun r39 => some (r39)) else if x1 = 47 then (Option.bind (fm_X13_end 17 σ) fun r43 => Option.bind (fm_X12_branch 0 x4 0 r43 σ) fun r47 => hl (α := Int32) ((if x1 = 47 then 4 else 6)) fun v53 => Option.bind (fm_X12_both v53 1 x2 x3 x4 r47) fun r54 => some (r54)) else if x1 = 94 then (Option.bind (fm_X12_both 4 0 x2 x3 x4 σ) fun r61 => some (r61)) else if x1 = 124 then (Option.bind (fm_X12_both 6 0 x2 x3 x4 σ) fun r65 => some (r65)) else if x1 = 134 then (Option.bind (fm_X12_both 1 0 x2 x3 x4 σ) fun r69 => some (r69)) else if x1 = 135 then (Option.bind (fm_X12_both 5 32 x2 x3 x4 σ) fun r73 => some (r73)) else (Option.bind (fm_X13_compare x1 x2 x3 x4 σ) fun r5 => some (r5))) fun r1 => some r1
set_option maxRecDepth 20000 in
set_option maxHeartbeats 4000000 in
theorem okX13_reckon (l : Launch) (E : hc_E) (A : Nat → Prop) (d : Nat)  (hD : 8 ≤ d) {x1 : Int32} {x2 : Int32} {x3 : Int32} {x4 : Int32} {σ : hc_St} {r : hc_St} (h : fm_X13_reckon  x1 x2 x3 x4 σ = some r) (am : Nat → Nat → Nat) : hc_M l hc_V0 yX13_reckon (ws_ yX13_reckon cX13_reckon 5 none) d E A [.ref (E.2.1 14), .int x1, .int x2, .int x3, .int x4] am [13] σ (.inl none) r := by
  have hd1 : 1 ≤ d := by omega
  refine hc_enter2 (own := RX13) [(0, .ref (E.2.1 14)), (1, .int x1), (2, .int x2), (3, .int x3), (4, .int x4)] pl_X13 rfl hc_V0_st hc_G0_nd rfl (Nat.le_of_ble_eq_true rfl) (fun X hC hem => ?_)
  unfold fm_X13_reckon at h
  refine hr_iload_n hC dX13_reckon_0 rfl ?_
  obtain ⟨r1, e2, h⟩ := hx_bind h
  have J3 : ∀ am87, hc_At hc_V0 E 5 X 277 [] [] r1 am87 [] := by
    intro am87
    obtain rfl := Option.some.inj h
    exact hr_vret hC dX13_reckon_277
  clear h
  have h := e2
  by_cases c77 : x1 = 37
  · rw [if_pos c77] at h
    refine hr_lookup hC 141 dX13_reckon_1 (by decide) (by rw [c77] <;> rfl) (by decide) ?_
    refine hr_aload_n hC dX13_reckon_141 rfl ?_
    refine hr_gO 13 hC F14_5 rfl dX13_reckon_142 q800 ?_
    refine hr_iconst (v := 0) hC dX13_reckon_145 rfl ?_
    refine hr_iload hC dX13_reckon_146 rfl ?_
    refine hr_iconst (v := 0) hC dX13_reckon_148 rfl ?_
    refine hr_aload_n hC dX13_reckon_149 rfl ?_
    refine hr_bipush (v := 17) hC dX13_reckon_150 rfl ?_
    obtain ⟨r9, e10, h⟩ := hx_bind h
    refine hs_callV0 hC 14 [_] _ dX13_reckon_152 q1983 q1985 qs104 q327 q1986 np_X13 rfl OB_14 pd_X13_end (Nat.le_of_ble_eq_true rfl) hd1 (okX13_end l E A (d - 1)  (by omega)  e10 am) rfl ?_
    obtain ⟨r13, e14, h⟩ := hx_bind h
    refine hs_callV hC 13 [_, _, _, _] _ dX13_reckon_155 q1987 q1988 q1989 q326 q1990 np_X12 rfl OB_13 pd_X12_branch (Nat.le_of_ble_eq_true rfl) hd1 (okX12_branch l E A (d - 1)  (by omega)  e14 am) (hc_rb rfl) rfl (fun am15 ha16 => ?_)
    refine hr_aload_n hC dX13_reckon_158 rfl ?_
    refine hr_gO 13 hC F14_5 rfl dX13_reckon_159 q800 ?_
    refine hr_iload_n hC dX13_reckon_162 rfl ?_
    refine hr_bipush (v := 47) hC dX13_reckon_163 rfl ?_
    obtain ⟨v19, hv19, h⟩ := hl_ok h
    have J24 : ∀ w25 : Int32, (if x1 = 47 then 4 else 6) = w25 → hc_At hc_V0 E 5 X 174 [(2, .int x2), (3, .int x3), (4, .int x4)] [.int w25, .ref (E.2.1 13)] r13 am15 [] := by
      intro w25 hw25
      obtain rfl := hv19.trans hw25
      refine hr_iconst (v := 1) hC dX13_reckon_174 rfl ?_
      refine hr_iload_n hC dX13_reckon_175 rfl ?_
      refine hr_iload_n hC dX13_reckon_176 rfl ?_
      refine hr_iload hC dX13_reckon_177 rfl ?_
      obtain ⟨r20, e21, h⟩ := hx_bind h
      refine hs_callV hC 13 [_, _, _, _, _] _ dX13_reckon_179 q2015 q2000 q2001 q326 q2002 np_X12 rfl OB_13 pd_X12_both (Nat.le_of_ble_eq_true rfl) hd1 (okX12_both l E A (d - 1)  (by omega)  e21 am15) (hc_rb rfl) rfl (fun am22 ha23 => ?_)
      refine hr_goto hC 277 dX13_reckon_182 (by decide) ?_
      obtain rfl := Option.some.inj h
      exact hr_sub _ rfl (J3 am22)
    refine hr_icmp_ne (x := _) hC 172 dX13_reckon_165 (by decide) (fun c26 => ?_) (fun c26 => ?_)
    · refine hr_bipush (v := 6) hC dX13_reckon_172 rfl ?_
      exact hr_sub _ rfl (J24 _ (by first | (rw [if_neg c26]; done) | (simp only [if_neg c26]; done) | rfl))
    · refine hr_iconst (v := 4) hC dX13_reckon_168 rfl ?_
      refine hr_goto hC 174 dX13_reckon_169 (by decide) ?_
      exact hr_sub _ rfl (J24 _ (by first | (rw [if_pos c26]; done) | (simp only [if_pos c26]; done) | rfl))
  rw [if_neg c77] at h
  by_cases c78 : x1 = 38
  · rw [if_pos c78] at h
    refine hr_lookup hC 185 dX13_reckon_1 (by decide) (by rw [c78] <;> rfl) (by decide) ?_
    refine hr_aload_n hC dX13_reckon_185 rfl ?_
    refine hr_gO 13 hC F14_5 rfl dX13_reckon_186 q800 ?_
    refine hr_bipush (v := 7) hC dX13_reckon_189 rfl ?_
    refine hr_iconst (v := 0) hC dX13_reckon_191 rfl ?_
    refine hr_iload_n hC dX13_reckon_192 rfl ?_
    refine hr_iload_n hC dX13_reckon_193 rfl ?_
    refine hr_iload hC dX13_reckon_194 rfl ?_
    obtain ⟨r27, e28, h⟩ := hx_bind h
    refine hs_callV hC 13 [_, _, _, _, _] _ dX13_reckon_196 q2015 q2000 q2001 q326 q2002 np_X12 rfl OB_13 pd_X12_both (Nat.le_of_ble_eq_true rfl) hd1 (okX12_both l E A (d - 1)  (by omega)  e28 am) (hc_rb rfl) rfl (fun am29 ha30 => ?_)
    refine hr_goto hC 277 dX13_reckon_199 (by decide) ?_
    obtain rfl := Option.some.inj h
    exact hr_sub _ rfl (J3 am29)
  rw [if_neg c78] at h
  by_cases c79 : x1 = 42
  · rw [if_pos c79] at h
    refine hr_lookup hC 125 dX13_reckon_1 (by decide) (by rw [c79] <;> rfl) (by decide) ?_
    refine hr_aload_n hC dX13_reckon_125 rfl ?_
    refine hr_gO 13 hC F14_5 rfl dX13_reckon_126 q800 ?_
    refine hr_iconst (v := 0) hC dX13_reckon_129 rfl ?_
    refine hr_iconst (v := 1) hC dX13_reckon_130 rfl ?_
    refine hr_iload_n hC dX13_reckon_131 rfl ?_
    refine hr_iload_n hC dX13_reckon_132 rfl ?_
    refine hr_iload hC dX13_reckon_133 rfl ?_
    obtain ⟨r31, e32, h⟩ := hx_bind h
    refine hs_callV hC 13 [_, _, _, _, _] _ dX13_reckon_135 q2015 q2000 q2001 q326 q2002 np_X12 rfl OB_13 pd_X12_both (Nat.le_of_ble_eq_true rfl) hd1 (okX12_both l E A (d - 1)  (by omega)  e32 am) (hc_rb rfl) rfl (fun am33 ha34 => ?_)
    refine hr_goto hC 277 dX13_reckon_138 (by decide) ?_
    obtain rfl := Option.some.inj h
    exact hr_sub _ rfl (J3 am33)
  rw [if_neg c79] at h
  by_cases c80 : x1 = 43
  · rw [if_pos c80] at h
    refine hr_lookup hC 92 dX13_reckon_1 (by decide) (by rw [c80] <;> rfl) (by decide) ?_
    refine hr_aload_n hC dX13_reckon_92 rfl ?_
    refine hr_gO 13 hC F14_5 rfl dX13_reckon_93 q800 ?_
    refine hr_iconst (v := 0) hC dX13_reckon_96 rfl ?_
    refine hr_iconst (v := 0) hC dX13_reckon_97 rfl ?_
    refine hr_iload_n hC dX13_reckon_98 rfl ?_
    refine hr_iload_n hC dX13_reckon_99 rfl ?_
    refine hr_iload hC dX13_reckon_100 rfl ?_
    obtain ⟨r35, e36, h⟩ := hx_bind h
    refine hs_callV hC 13 [_, _, _, _, _] _ dX13_reckon_102 q2015 q2000 q2001 q326 q2002 np_X12 rfl OB_13 pd_X12_both (Nat.le_of_ble_eq_true rfl) hd1 (okX12_both l E A (d - 1)  (by omega)  e36 am) (hc_rb rfl) rfl (fun am37 ha38 => ?_)
    refine hr_goto hC 277 dX13_reckon_105 (by decide) ?_
    obtain rfl := Option.some.inj h
    exact hr_sub _ rfl (J3 am37)
  rw [if_neg c80] at h
  by_cases c81 : x1 = 45
  · rw [if_pos c81] at h
    refine hr_lookup hC 108 dX13_reckon_1 (by decide) (by rw [c81] <;> rfl) (by decide) ?_
    refine hr_aload_n hC dX13_reckon_108 rfl ?_
    refine hr_gO 13 hC F14_5 rfl dX13_reckon_109 q800 ?_
    refine hr_iconst (v := 0) hC dX13_reckon_112 rfl ?_
    refine hr_bipush (v := 32) hC dX13_reckon_113 rfl ?_
    refine hr_iload_n hC dX13_reckon_115 rfl ?_
    refine hr_iload_n hC dX13_reckon_116 rfl ?_
    refine hr_iload hC dX13_reckon_117 rfl ?_
    obtain ⟨r39, e40, h⟩ := hx_bind h
    refine hs_callV hC 13 [_, _, _, _, _] _ dX13_reckon_119 q2015 q2000 q2001 q326 q2002 np_X12 rfl OB_13 pd_X12_both (Nat.le_of_ble_eq_true rfl) hd1 (okX12_both l E A (d - 1)  (by omega)  e40 am) (hc_rb rfl) rfl (fun am41 ha42 => ?_)
    refine hr_goto hC 277 dX13_reckon_122 (by decide) ?_
    obtain rfl := Option.some.inj h
    exact hr_sub _ rfl (J3 am41)
  rw [if_neg c81] at h
  by_cases c82 : x1 = 47
  · rw [if_pos c82] at h
    refine hr_lookup hC 141 dX13_reckon_1 (by decide) (by rw [c82] <;> rfl) (by decide) ?_
    refine hr_aload_n hC dX13_reckon_141 rfl ?_
    refine hr_gO 13 hC F14_5 rfl dX13_reckon_142 q800 ?_
    refine hr_iconst (v := 0) hC dX13_reckon_145 rfl ?_
    refine hr_iload hC dX13_reckon_146 rfl ?_
    refine hr_iconst (v := 0) hC dX13_reckon_148 rfl ?_
    refine hr_aload_n hC dX13_reckon_149 rfl ?_
    refine hr_bipush (v := 17) hC dX13_reckon_150 rfl ?_
    obtain ⟨r43, e44, h⟩ := hx_bind h
    refine hs_callV0 hC 14 [_] _ dX13_reckon_152 q1983 q1985 qs104 q327 q1986 np_X13 rfl OB_14 pd_X13_end (Nat.le_of_ble_eq_true rfl) hd1 (okX13_end l E A (d - 1)  (by omega)  e44 am) rfl ?_
    obtain ⟨r47, e48, h⟩ := hx_bind h
    refine hs_callV hC 13 [_, _, _, _] _ dX13_reckon_155 q1987 q1988 q1989 q326 q1990 np_X12 rfl OB_13 pd_X12_branch (Nat.le_of_ble_eq_true rfl) hd1 (okX12_branch l E A (d - 1)  (by omega)  e48 am) (hc_rb rfl) rfl (fun am49 ha50 => ?_)
    refine hr_aload_n hC dX13_reckon_158 rfl ?_
    refine hr_gO 13 hC F14_5 rfl dX13_reckon_159 q800 ?_
    refine hr_iload_n hC dX13_reckon_162 rfl ?_
    refine hr_bipush (v := 47) hC dX13_reckon_163 rfl ?_
    obtain ⟨v53, hv53, h⟩ := hl_ok h
    have J58 : ∀ w59 : Int32, (if x1 = 47 then 4 else 6) = w59 → hc_At hc_V0 E 5 X 174 [(2, .int x2), (3, .int x3), (4, .int x4)] [.int w59, .ref (E.2.1 13)] r47 am49 [] := by
      intro w59 hw59
      obtain rfl := hv53.trans hw59
      refine hr_iconst (v := 1) hC dX13_reckon_174 rfl ?_
      refine hr_iload_n hC dX13_reckon_175 rfl ?_
      refine hr_iload_n hC dX13_reckon_176 rfl ?_
      refine hr_iload hC dX13_reckon_177 rfl ?_
      obtain ⟨r54, e55, h⟩ := hx_bind h
      refine hs_callV hC 13 [_, _, _, _, _] _ dX13_reckon_179 q2015 q2000 q2001 q326 q2002 np_X12 rfl OB_13 pd_X12_both (Nat.le_of_ble_eq_true rfl) hd1 (okX12_both l E A (d - 1)  (by omega)  e55 am49) (hc_rb rfl) rfl (fun am56 ha57 => ?_)
      refine hr_goto hC 277 dX13_reckon_182 (by decide) ?_
      obtain rfl := Option.some.inj h
      exact hr_sub _ rfl (J3 am56)
    refine hr_icmp_ne (x := _) hC 172 dX13_reckon_165 (by decide) (fun c60 => ?_) (fun c60 => ?_)
    · refine hr_bipush (v := 6) hC dX13_reckon_172 rfl ?_
      exact hr_sub _ rfl (J58 _ (by first | (rw [if_neg c60]; done) | (simp only [if_neg c60]; done) | rfl))
    · refine hr_iconst (v := 4) hC dX13_reckon_168 rfl ?_
      refine hr_goto hC 174 dX13_reckon_169 (by decide) ?_
      exact hr_sub _ rfl (J58 _ (by first | (rw [if_pos c60]; done) | (simp only [if_pos c60]; done) | rfl))
  rw [if_neg c82] at h
  by_cases c83 : x1 = 94
  · rw [if_pos c83] at h
    refine hr_lookup hC 219 dX13_reckon_1 (by decide) (by rw [c83] <;> rfl) (by decide) ?_
    refine hr_aload_n hC dX13_reckon_219 rfl ?_
    refine hr_gO 13 hC F14_5 rfl dX13_reckon_220 q800 ?_
    refine hr_iconst (v := 4) hC dX13_reckon_223 rfl ?_
    refine hr_iconst (v := 0) hC dX13_reckon_224 rfl ?_
    refine hr_iload_n hC dX13_reckon_225 rfl ?_
    refine hr_iload_n hC dX13_reckon_226 rfl ?_
    refine hr_iload hC dX13_reckon_227 rfl ?_
    obtain ⟨r61, e62, h⟩ := hx_bind h
    refine hs_callV hC 13 [_, _, _, _, _] _ dX13_reckon_229 q2015 q2000 q2001 q326 q2002 np_X12 rfl OB_13 pd_X12_both (Nat.le_of_ble_eq_true rfl) hd1 (okX12_both l E A (d - 1)  (by omega)  e62 am) (hc_rb rfl) rfl (fun am63 ha64 => ?_)
    refine hr_goto hC 277 dX13_reckon_232 (by decide) ?_
    obtain rfl := Option.some.inj h
    exact hr_sub _ rfl (J3 am63)
  rw [if_neg c83] at h
  by_cases c84 : x1 = 124
  · rw [if_pos c84] at h
    refine hr_lookup hC 202 dX13_reckon_1 (by decide) (by rw [c84] <;> rfl) (by decide) ?_
    refine hr_aload_n hC dX13_reckon_202 rfl ?_
    refine hr_gO 13 hC F14_5 rfl dX13_reckon_203 q800 ?_
    refine hr_bipush (v := 6) hC dX13_reckon_206 rfl ?_
    refine hr_iconst (v := 0) hC dX13_reckon_208 rfl ?_
    refine hr_iload_n hC dX13_reckon_209 rfl ?_
    refine hr_iload_n hC dX13_reckon_210 rfl ?_
    refine hr_iload hC dX13_reckon_211 rfl ?_
    obtain ⟨r65, e66, h⟩ := hx_bind h
    refine hs_callV hC 13 [_, _, _, _, _] _ dX13_reckon_213 q2015 q2000 q2001 q326 q2002 np_X12 rfl OB_13 pd_X12_both (Nat.le_of_ble_eq_true rfl) hd1 (okX12_both l E A (d - 1)  (by omega)  e66 am) (hc_rb rfl) rfl (fun am67 ha68 => ?_)
    refine hr_goto hC 277 dX13_reckon_216 (by decide) ?_
    obtain rfl := Option.some.inj h
    exact hr_sub _ rfl (J3 am67)
  rw [if_neg c84] at h
  by_cases c85 : x1 = 134
  · rw [if_pos c85] at h
    refine hr_lookup hC 235 dX13_reckon_1 (by decide) (by rw [c85] <;> rfl) (by decide) ?_
    refine hr_aload_n hC dX13_reckon_235 rfl ?_
    refine hr_gO 13 hC F14_5 rfl dX13_reckon_236 q800 ?_
    refine hr_iconst (v := 1) hC dX13_reckon_239 rfl ?_
    refine hr_iconst (v := 0) hC dX13_reckon_240 rfl ?_
    refine hr_iload_n hC dX13_reckon_241 rfl ?_
    refine hr_iload_n hC dX13_reckon_242 rfl ?_
    refine hr_iload hC dX13_reckon_243 rfl ?_
    obtain ⟨r69, e70, h⟩ := hx_bind h
    refine hs_callV hC 13 [_, _, _, _, _] _ dX13_reckon_245 q2015 q2000 q2001 q326 q2002 np_X12 rfl OB_13 pd_X12_both (Nat.le_of_ble_eq_true rfl) hd1 (okX12_both l E A (d - 1)  (by omega)  e70 am) (hc_rb rfl) rfl (fun am71 ha72 => ?_)
    refine hr_goto hC 277 dX13_reckon_248 (by decide) ?_
    obtain rfl := Option.some.inj h
    exact hr_sub _ rfl (J3 am71)
  rw [if_neg c85] at h
  by_cases c86 : x1 = 135
  · rw [if_pos c86] at h
    refine hr_lookup hC 251 dX13_reckon_1 (by decide) (by rw [c86] <;> rfl) (by decide) ?_
    refine hr_aload_n hC dX13_reckon_251 rfl ?_
    refine hr_gO 13 hC F14_5 rfl dX13_reckon_252 q800 ?_
    refine hr_iconst (v := 5) hC dX13_reckon_255 rfl ?_
    refine hr_bipush (v := 32) hC dX13_reckon_256 rfl ?_
    refine hr_iload_n hC dX13_reckon_258 rfl ?_
    refine hr_iload_n hC dX13_reckon_259 rfl ?_
    refine hr_iload hC dX13_reckon_260 rfl ?_
    obtain ⟨r73, e74, h⟩ := hx_bind h
    refine hs_callV hC 13 [_, _, _, _, _] _ dX13_reckon_262 q2015 q2000 q2001 q326 q2002 np_X12 rfl OB_13 pd_X12_both (Nat.le_of_ble_eq_true rfl) hd1 (okX12_both l E A (d - 1)  (by omega)  e74 am) (hc_rb rfl) rfl (fun am75 ha76 => ?_)
    refine hr_goto hC 277 dX13_reckon_265 (by decide) ?_
    obtain rfl := Option.some.inj h
    exact hr_sub _ rfl (J3 am75)
  rw [if_neg c86] at h
  refine hr_lookup hC 268 dX13_reckon_1 (by decide) (hc_lkD (hc_l1 (hc_ne c77 rfl) (hc_l1 (hc_ne c78 rfl) (hc_l1 (hc_ne c79 rfl) (hc_l1 (hc_ne c80 rfl) (hc_l1 (hc_ne c81 rfl) (hc_l1 (hc_ne c82 rfl) (hc_l1 (hc_ne c83 rfl) (hc_l1 (hc_ne c84 rfl) (hc_l1 (hc_ne c85 rfl) (hc_l1 (hc_ne c86 rfl) hc_l0))))))))))) (by decide) ?_
  refine hr_aload_n hC dX13_reckon_268 rfl ?_
  refine hr_iload_n hC dX13_reckon_269 rfl ?_
  refine hr_iload_n hC dX13_reckon_270 rfl ?_
  refine hr_iload_n hC dX13_reckon_271 rfl ?_
  refine hr_iload hC dX13_reckon_272 rfl ?_
  obtain ⟨r5, e6, h⟩ := hx_bind h
  refine hs_callV hC 14 [_, _, _, _] _ dX13_reckon_274 q2238 q2240 qs134 q327 q2241 np_X13 rfl OB_14 pd_X13_compare (Nat.le_of_ble_eq_true rfl) hd1 (okX13_compare l E A (d - 1)  (by omega)  e6 am) (hc_rb rfl) rfl (fun am7 ha8 => ?_)
  obtain rfl := Option.some.inj h
  exact hr_sub _ rfl (J3 am7)
/-- HomeCompiler$Generator.assign(III)I -/
def fm_X13_assign  (x1 : Int32) (x2 : Int32) (x3 : Int32) (σ : hc_St) : Option (Int32 × hc_St) := Option.bind (fm_X11_type x1 σ) fun r1 => hl (α := Int32) ((if r1 = 1 then 1 else 0)) fun v7 => Option.bind (fm_X11_owner x1 σ) fun r8 => Option.bind (α := Int32) (if r8 = (-1) then (some ((-1))) else (Option.bind (fm_X15_of x1 σ) fun r18 => some (r18))) fun r14 => Option.bind (fm_X13_use x2 5 σ) fun r22 => if r14 = (-1) then (Option.bind (α := hc_St × Int32 × Int32) (if v7 = 0 then (some (r22.2, r22.1, x2)) else (Option.bind (fm_X13_dest x3 r22.2) fun r34 => Option.bind (fm_X12_number 7 r34 r22.1 255 r22.2) fun r38 => Option.bind (fm_X13_dest x3 r38) fun r42 => Option.bind (fm_X13_keep x3 r38) fun r46 => some (r46.2, r42, r46.1))) fun r30 => Option.bind (fm_X11_owner x1 r30.1) fun r51 => Option.bind (α := hc_St) (if r51 = (-1) then (hk (inb x1 (gL r30.1 14 9)) <| Option.bind (fm_X12_set 6 ((gC r30.1 14 9 x1)) r30.1) fun r70 => Option.bind (fm_X12_store 2 6 r30.2.1 0 r70) fun r74 => some (r74)) else (Option.bind (fm_X15_place_2 x1 r30.1) fun r61 => Option.bind (fm_X12_storeAt r30.2.1 8 ((-r61)) 7 r30.1) fun r65 => some (r65))) fun r57 => some (r30.2.2, r57)) else (Option.bind (α := hc_St) (if v7 = 0 then (Option.bind (fm_X12_move r14 r22.1 r22.2) fun r85 => some (r85)) else (Option.bind (fm_X12_number 7 r14 r22.1 255 r22.2) fun r89 => some (r89))) fun r81 => some (r14, r81))
set_option maxRecDepth 20000 in
set_option maxHeartbeats 4000000 in
theorem okX13_assign (l : Launch) (E : hc_E) (A : Nat → Prop) (d : Nat)  (hD : 12 ≤ d) {x1 : Int32} {x2 : Int32} {x3 : Int32} {σ : hc_St} {r : (Int32 × hc_St)} (h : fm_X13_assign  x1 x2 x3 σ = some r) (am : Nat → Nat → Nat) : hc_M l hc_V0 yX13_assign (ws_ yX13_assign cX13_assign 8 (some .int)) d E A [.ref (E.2.1 14), .int x1, .int x2, .int x3] am [13] σ (.inl (some (.int r.1))) r.2 := by
  have hd1 : 1 ≤ d := by omega
  have hd8 : 9 ≤ d := by omega
  refine hc_enter2 (own := RX13) [(0, .ref (E.2.1 14)), (1, .int x1), (2, .int x2), (3, .int x3)] pl_X13 rfl hc_V0_st hc_G0_nd rfl (Nat.le_of_ble_eq_true rfl) (fun X hC hem => ?_)
  unfold fm_X13_assign at h
  refine hr_aload_n hC dX13_assign_0 rfl ?_
  refine hr_gO 11 hC F14_2 rfl dX13_assign_1 q797 ?_
  refine hr_iload_n hC dX13_assign_4 rfl ?_
  obtain ⟨r1, e2, h⟩ := hx_bind h
  refine hs_callV0 hC 11 [_] _ dX13_assign_5 q2085 q1659 q1660 q325 q1661 np_X11 rfl OB_11 pd_X11_type (Nat.le_of_ble_eq_true rfl) hd1 (okX11_type l E A (d - 1)  (by omega)  e2 am) rfl ?_
  refine hr_iconst (v := 1) hC dX13_assign_8 rfl ?_
  obtain ⟨v7, hv7, h⟩ := hl_ok h
  have J94 : ∀ w95 : Int32, (if r1 = 1 then 1 else 0) = w95 → hc_At hc_V0 E 8 X 17 [(0, .ref (E.2.1 14)), (1, .int x1), (2, .int x2), (3, .int x3)] [.int w95] σ am [] := by
    intro w95 hw95
    obtain rfl := hv7.trans hw95
    refine hr_istore hC dX13_assign_17 (by decide) ?_
    refine hr_aload_n hC dX13_assign_19 rfl ?_
    refine hr_gO 11 hC F14_2 rfl dX13_assign_20 q797 ?_
    refine hr_iload_n hC dX13_assign_23 rfl ?_
    obtain ⟨r8, e9, h⟩ := hx_bind h
    refine hs_callV0 hC 11 [_] _ dX13_assign_24 q1867 q1868 q1869 q325 q1870 np_X11 rfl OB_11 pd_X11_owner (Nat.le_of_ble_eq_true rfl) hd1 (okX11_owner l E A (d - 1)  (by omega)  e9 am) rfl ?_
    refine hr_iconst (v := (-1)) hC dX13_assign_27 rfl ?_
    obtain ⟨r14, e15, h⟩ := hx_bind h
    have J16 : hc_At hc_V0 E 8 X 43 [(0, .ref (E.2.1 14)), (1, .int x1), (2, .int x2), (3, .int x3), (4, .int v7)] [.int r14] σ am [] := by
      refine hr_istore hC dX13_assign_43 (by decide) ?_
      refine hr_aload_n hC dX13_assign_45 rfl ?_
      refine hr_iload_n hC dX13_assign_46 rfl ?_
      refine hr_iconst (v := 5) hC dX13_assign_47 rfl ?_
      obtain ⟨r22, e23, h⟩ := hx_bind h
      refine hs_callV hC 14 [_, _] _ dX13_assign_48 q2167 q2169 qs121 q327 q2170 np_X13 rfl OB_14 pd_X13_use (Nat.le_of_ble_eq_true rfl) hd1 (okX13_use l E A (d - 1)  (by omega)  e23 am) (hc_rb rfl) rfl (fun am24 ha25 => ?_)
      refine hr_istore hC dX13_assign_51 (by decide) ?_
      refine hr_iload hC dX13_assign_53 rfl ?_
      refine hr_iconst (v := (-1)) hC dX13_assign_55 rfl ?_
      refine hr_icmp_eq (x := _) hC 97 dX13_assign_56 (by decide) (fun c27 => ?_) (fun c27 => ?_)
      · rw [if_pos c27] at h
        refine hr_iload_n hC dX13_assign_97 rfl ?_
        refine hr_istore hC dX13_assign_98 (by decide) ?_
        refine hr_iload hC dX13_assign_100 rfl ?_
        obtain ⟨r30, e31, h⟩ := hx_bind h
        have J32 : ∀ am50, hc_At hc_V0 E 8 X 138 [(0, .ref (E.2.1 14)), (1, .int x1), (6, .int r30.2.1), (7, .int r30.2.2)] [] r30.1 am50 [] := by
          intro am50
          refine hr_aload_n hC dX13_assign_138 rfl ?_
          refine hr_gO 11 hC F14_2 rfl dX13_assign_139 q797 ?_
          refine hr_iload_n hC dX13_assign_142 rfl ?_
          obtain ⟨r51, e52, h⟩ := hx_bind h
          refine hs_callV0 hC 11 [_] _ dX13_assign_143 q1867 q1868 q1869 q325 q1870 np_X11 rfl OB_11 pd_X11_owner (Nat.le_of_ble_eq_true rfl) hd1 (okX11_owner l E A (d - 1)  (by omega)  e52 am50) rfl ?_
          refine hr_iconst (v := (-1)) hC dX13_assign_146 rfl ?_
          obtain ⟨r57, e58, h⟩ := hx_bind h
          have J59 : ∀ am78, hc_At hc_V0 E 8 X 203 [(7, .int r30.2.2)] [] r57 am78 [] := by
            intro am78
            refine hr_iload hC dX13_assign_203 rfl ?_
            obtain rfl := Option.some.inj h
            exact hr_iret hC dX13_assign_205
          clear h
          have h := e58
          refine hr_icmp_ne (x := _) hC 181 dX13_assign_147 (by decide) (fun c56 => ?_) (fun c56 => ?_)
          · rw [if_neg c56] at h
            refine hr_aload_n hC dX13_assign_181 rfl ?_
            refine hr_gO 13 hC F14_5 rfl dX13_assign_182 q800 ?_
            refine hr_iload hC dX13_assign_185 rfl ?_
            refine hr_bipush (v := 8) hC dX13_assign_187 rfl ?_
            refine hr_aload_n hC dX13_assign_189 rfl ?_
            refine hr_gO 16 hC F14_7 rfl dX13_assign_190 q802 ?_
            refine hr_iload_n hC dX13_assign_193 rfl ?_
            obtain ⟨r61, e62, h⟩ := hx_bind h
            refine hs_callV0 hC 16 [_] _ dX13_assign_194 q2052 q2053 q2054 q329 q2055 np_X15 rfl OB_16 pd_X15_place_2 (Nat.le_of_ble_eq_true rfl) hd1 (okX15_place_2 l E A (d - 1)  (by omega)  e62 am50) rfl ?_
            refine hr_ineg hC dX13_assign_197 ?_
            refine hr_bipush (v := 7) hC dX13_assign_198 rfl ?_
            obtain ⟨r65, e66, h⟩ := hx_bind h
            refine hs_callV hC 13 [_, _, _, _] _ dX13_assign_200 q2020 q2021 q2022 q326 q2023 np_X12 rfl OB_13 pd_X12_storeAt (Nat.le_of_ble_eq_true rfl) hd1 (okX12_storeAt l E A (d - 1)  (by omega)  e66 am50) (hc_rb rfl) rfl (fun am67 ha68 => ?_)
            obtain rfl := Option.some.inj h
            exact hr_sub _ rfl (J59 am67)
          · rw [if_pos c56] at h
            refine hr_aload_n hC dX13_assign_150 rfl ?_
            refine hr_gO 13 hC F14_5 rfl dX13_assign_151 q800 ?_
            refine hr_bipush (v := 6) hC dX13_assign_154 rfl ?_
            refine hr_aload_n hC dX13_assign_156 rfl ?_
            refine hr_gA hC F14_9 rfl dX13_assign_157 q804 ?_
            refine hr_iload_n hC dX13_assign_160 rfl ?_
            obtain ⟨c69, h⟩ := hk_ok h
            refine hs_iald hC A14_9 c69 dX13_assign_161 ?_
            obtain ⟨r70, e71, h⟩ := hx_bind h
            refine hs_callV hC 13 [_, _] _ dX13_assign_162 q1908 q1909 q1910 q326 q1911 np_X12 rfl OB_13 pd_X12_set (Nat.le_of_ble_eq_true rfl) hd1 (okX12_set l E A (d - 1)  (by omega)  e71 am50) (hc_rb rfl) rfl (fun am72 ha73 => ?_)
            refine hr_aload_n hC dX13_assign_165 rfl ?_
            refine hr_gO 13 hC F14_5 rfl dX13_assign_166 q800 ?_
            refine hr_iconst (v := 2) hC dX13_assign_169 rfl ?_
            refine hr_bipush (v := 6) hC dX13_assign_170 rfl ?_
            refine hr_iload hC dX13_assign_172 rfl ?_
            refine hr_iconst (v := 0) hC dX13_assign_174 rfl ?_
            obtain ⟨r74, e75, h⟩ := hx_bind h
            refine hs_callV hC 13 [_, _, _, _] _ dX13_assign_175 q1896 q1897 q1898 q326 q1899 np_X12 rfl OB_13 pd_X12_store (Nat.le_of_ble_eq_true rfl) hd1 (okX12_store l E A (d - 1)  (by omega)  e75 am72) (hc_rb rfl) rfl (fun am76 ha77 => ?_)
            refine hr_goto hC 203 dX13_assign_178 (by decide) ?_
            obtain rfl := Option.some.inj h
            exact hr_sub _ rfl (J59 am76)
        clear h
        have h := e31
        refine hr_if_eq (x := _) hC 138 dX13_assign_102 (by decide) (fun c29 => ?_) (fun c29 => ?_)
        · rw [if_pos c29] at h
          obtain rfl := Option.some.inj h
          exact hr_sub _ rfl (J32 am24)
        · rw [if_neg c29] at h
          refine hr_aload_n hC dX13_assign_105 rfl ?_
          refine hr_gO 13 hC F14_5 rfl dX13_assign_106 q800 ?_
          refine hr_bipush (v := 7) hC dX13_assign_109 rfl ?_
          refine hr_aload_n hC dX13_assign_111 rfl ?_
          refine hr_iload_n hC dX13_assign_112 rfl ?_
          obtain ⟨r34, e35, h⟩ := hx_bind h
          refine hs_callV0 hC 14 [_] _ dX13_assign_113 q2135 q2137 qs115 q327 q2138 np_X13 rfl OB_14 pd_X13_dest (Nat.le_of_ble_eq_true rfl) hd1 (okX13_dest l E A (d - 1)  (by omega)  e35 am24) rfl ?_
          refine hr_iload hC dX13_assign_116 rfl ?_
          refine hr_sipush (v := 255) hC dX13_assign_118 rfl ?_
          obtain ⟨r38, e39, h⟩ := hx_bind h
          refine hs_callV hC 13 [_, _, _, _] _ dX13_assign_121 q1992 q1913 q1914 q326 q1915 np_X12 rfl OB_13 pd_X12_number (Nat.le_of_ble_eq_true rfl) hd1 (okX12_number l E A (d - 1)  (by omega)  e39 am24) (hc_rb rfl) rfl (fun am40 ha41 => ?_)
          refine hr_aload_n hC dX13_assign_124 rfl ?_
          refine hr_iload_n hC dX13_assign_125 rfl ?_
          obtain ⟨r42, e43, h⟩ := hx_bind h
          refine hs_callV0 hC 14 [_] _ dX13_assign_126 q2135 q2137 qs115 q327 q2138 np_X13 rfl OB_14 pd_X13_dest (Nat.le_of_ble_eq_true rfl) hd1 (okX13_dest l E A (d - 1)  (by omega)  e43 am40) rfl ?_
          refine hr_istore hC dX13_assign_129 (by decide) ?_
          refine hr_aload_n hC dX13_assign_131 rfl ?_
          refine hr_iload_n hC dX13_assign_132 rfl ?_
          obtain ⟨r46, e47, h⟩ := hx_bind h
          refine hs_callV hC 14 [_] _ dX13_assign_133 q2142 q2144 qs116 q327 q2145 np_X13 rfl OB_14 pd_X13_keep (Nat.le_of_ble_eq_true rfl) hd1 (okX13_keep l E A (d - 1)  (by omega)  e47 am40) (hc_rb rfl) rfl (fun am48 ha49 => ?_)
          refine hr_istore hC dX13_assign_136 (by decide) ?_
          obtain rfl := Option.some.inj h
          exact hr_sub _ rfl (J32 am48)
      · rw [if_neg c27] at h
        refine hr_iload hC dX13_assign_59 rfl ?_
        obtain ⟨r81, e82, h⟩ := hx_bind h
        have J83 : ∀ am93, hc_At hc_V0 E 8 X 94 [(5, .int r14)] [] r81 am93 [] := by
          intro am93
          refine hr_iload hC dX13_assign_94 rfl ?_
          obtain rfl := Option.some.inj h
          exact hr_iret hC dX13_assign_96
        clear h
        have h := e82
        refine hr_if_eq (x := _) hC 83 dX13_assign_61 (by decide) (fun c80 => ?_) (fun c80 => ?_)
        · rw [if_pos c80] at h
          refine hr_aload_n hC dX13_assign_83 rfl ?_
          refine hr_gO 13 hC F14_5 rfl dX13_assign_84 q800 ?_
          refine hr_iload hC dX13_assign_87 rfl ?_
          refine hr_iload hC dX13_assign_89 rfl ?_
          obtain ⟨r85, e86, h⟩ := hx_bind h
          refine hs_callV hC 13 [_, _] _ dX13_assign_91 q2007 q2008 q2009 q326 q2010 np_X12 rfl OB_13 pd_X12_move (Nat.le_of_ble_eq_true rfl) hd1 (okX12_move l E A (d - 1)  (by omega)  e86 am24) (hc_rb rfl) rfl (fun am87 ha88 => ?_)
          obtain rfl := Option.some.inj h
          exact hr_sub _ rfl (J83 am87)
        · rw [if_neg c80] at h
          refine hr_aload_n hC dX13_assign_64 rfl ?_
          refine hr_gO 13 hC F14_5 rfl dX13_assign_65 q800 ?_
          refine hr_bipush (v := 7) hC dX13_assign_68 rfl ?_
          refine hr_iload hC dX13_assign_70 rfl ?_
          refine hr_iload hC dX13_assign_72 rfl ?_
          refine hr_sipush (v := 255) hC dX13_assign_74 rfl ?_
          obtain ⟨r89, e90, h⟩ := hx_bind h
          refine hs_callV hC 13 [_, _, _, _] _ dX13_assign_77 q1992 q1913 q1914 q326 q1915 np_X12 rfl OB_13 pd_X12_number (Nat.le_of_ble_eq_true rfl) hd1 (okX12_number l E A (d - 1)  (by omega)  e90 am24) (hc_rb rfl) rfl (fun am91 ha92 => ?_)
          refine hr_goto hC 94 dX13_assign_80 (by decide) ?_
          obtain rfl := Option.some.inj h
          exact hr_sub _ rfl (J83 am91)
    clear h
    have h := e15
    refine hr_icmp_ne (x := _) hC 35 dX13_assign_28 (by decide) (fun c13 => ?_) (fun c13 => ?_)
    · rw [if_neg c13] at h
      refine hr_aload_n hC dX13_assign_35 rfl ?_
      refine hr_gO 16 hC F14_7 rfl dX13_assign_36 q802 ?_
      refine hr_iload_n hC dX13_assign_39 rfl ?_
      obtain ⟨r18, e19, h⟩ := hx_bind h
      refine hs_callV0 hC 16 [_] _ dX13_assign_40 q2044 q2045 q2046 q329 q2047 np_X15 rfl OB_16 pd_X15_of (Nat.le_of_ble_eq_true rfl) hd1 (okX15_of l E A (d - 1)  (by omega)  e19 am) rfl ?_
      obtain rfl := Option.some.inj h
      exact hr_sub _ rfl (J16)
    · rw [if_pos c13] at h
      refine hr_iconst (v := (-1)) hC dX13_assign_31 rfl ?_
      refine hr_goto hC 43 dX13_assign_32 (by decide) ?_
      obtain rfl := Option.some.inj h
      exact hr_sub _ rfl (J16)
  refine hr_icmp_ne (x := _) hC 16 dX13_assign_9 (by decide) (fun c96 => ?_) (fun c96 => ?_)
  · refine hr_iconst (v := 0) hC dX13_assign_16 rfl ?_
    exact hr_sub _ rfl (J94 _ (by first | (rw [if_neg c96]; done) | (simp only [if_neg c96]; done) | rfl))
  · refine hr_iconst (v := 1) hC dX13_assign_12 rfl ?_
    refine hr_goto hC 17 dX13_assign_13 (by decide) ?_
    exact hr_sub _ rfl (J94 _ (by first | (rw [if_pos c96]; done) | (simp only [if_pos c96]; done) | rfl))
/-- HomeCompiler$Generator.storeElement(II)V -/
def fm_X13_storeElement  (x1 : Int32) (x2 : Int32) (σ : hc_St) : Option hc_St := Option.bind (fm_X11_type x1 σ) fun r1 => hl (α := Int32) ((if r1 = 1 then 0 else 2)) fun v7 => Option.bind (fm_X12_store v7 7 x2 0 σ) fun r8 => some r8
set_option maxRecDepth 20000 in
set_option maxHeartbeats 4000000 in
theorem okX13_storeElement (l : Launch) (E : hc_E) (A : Nat → Prop) (d : Nat)  (hD : 7 ≤ d) {x1 : Int32} {x2 : Int32} {σ : hc_St} {r : hc_St} (h : fm_X13_storeElement  x1 x2 σ = some r) (am : Nat → Nat → Nat) : hc_M l hc_V0 yX13_storeElement (ws_ yX13_storeElement cX13_storeElement 3 none) d E A [.ref (E.2.1 14), .int x1, .int x2] am [13] σ (.inl none) r := by
  have hd1 : 1 ≤ d := by omega
  refine hc_enter2 (own := RX13) [(0, .ref (E.2.1 14)), (1, .int x1), (2, .int x2)] pl_X13 rfl hc_V0_st hc_G0_nd rfl (Nat.le_of_ble_eq_true rfl) (fun X hC hem => ?_)
  unfold fm_X13_storeElement at h
  refine hr_aload_n hC dX13_storeElement_0 rfl ?_
  refine hr_gO 13 hC F14_5 rfl dX13_storeElement_1 q800 ?_
  refine hr_aload_n hC dX13_storeElement_4 rfl ?_
  refine hr_gO 11 hC F14_2 rfl dX13_storeElement_5 q797 ?_
  refine hr_iload_n hC dX13_storeElement_8 rfl ?_
  obtain ⟨r1, e2, h⟩ := hx_bind h
  refine hs_callV0 hC 11 [_] _ dX13_storeElement_9 q2085 q1659 q1660 q325 q1661 np_X11 rfl OB_11 pd_X11_type (Nat.le_of_ble_eq_true rfl) hd1 (okX11_type l E A (d - 1)  (by omega)  e2 am) rfl ?_
  refine hr_iconst (v := 1) hC dX13_storeElement_12 rfl ?_
  obtain ⟨v7, hv7, h⟩ := hl_ok h
  have J12 : ∀ w13 : Int32, (if r1 = 1 then 0 else 2) = w13 → hc_At hc_V0 E 3 X 21 [(2, .int x2)] [.int w13, .ref (E.2.1 13)] σ am [] := by
    intro w13 hw13
    obtain rfl := hv7.trans hw13
    refine hr_bipush (v := 7) hC dX13_storeElement_21 rfl ?_
    refine hr_iload_n hC dX13_storeElement_23 rfl ?_
    refine hr_iconst (v := 0) hC dX13_storeElement_24 rfl ?_
    obtain ⟨r8, e9, h⟩ := hx_bind h
    refine hs_callV hC 13 [_, _, _, _] _ dX13_storeElement_25 q1896 q1897 q1898 q326 q1899 np_X12 rfl OB_13 pd_X12_store (Nat.le_of_ble_eq_true rfl) hd1 (okX12_store l E A (d - 1)  (by omega)  e9 am) (hc_rb rfl) rfl (fun am10 ha11 => ?_)
    obtain rfl := Option.some.inj h
    exact hr_vret hC dX13_storeElement_28
  refine hr_icmp_ne (x := _) hC 20 dX13_storeElement_13 (by decide) (fun c14 => ?_) (fun c14 => ?_)
  · refine hr_iconst (v := 2) hC dX13_storeElement_20 rfl ?_
    exact hr_sub _ rfl (J12 _ (by first | (rw [if_neg c14]; done) | (simp only [if_neg c14]; done) | rfl))
  · refine hr_iconst (v := 0) hC dX13_storeElement_16 rfl ?_
    refine hr_goto hC 21 dX13_storeElement_17 (by decide) ?_
    exact hr_sub _ rfl (J12 _ (by first | (rw [if_pos c14]; done) | (simp only [if_pos c14]; done) | rfl))
/-- HomeCompiler$Generator.narrowed(III)I -/
def fm_X13_narrowed  (x1 : Int32) (x2 : Int32) (x3 : Int32) (σ : hc_St) : Option (Int32 × hc_St) := Option.bind (fm_X11_type x1 σ) fun r1 => Option.bind (α := hc_St) (if r1 = 1 then (Option.bind (fm_X13_dest x3 σ) fun r19 => Option.bind (fm_X12_number 7 r19 x2 255 σ) fun r23 => some (r23)) else (Option.bind (fm_X13_dest x3 σ) fun r11 => Option.bind (fm_X12_move r11 x2 σ) fun r15 => some (r15))) fun r7 => Option.bind (fm_X13_keep x3 r7) fun r28 => some (r28.1, r28.2)
set_option maxRecDepth 20000 in
set_option maxHeartbeats 4000000 in
theorem okX13_narrowed (l : Launch) (E : hc_E) (A : Nat → Prop) (d : Nat)  (hD : 12 ≤ d) {x1 : Int32} {x2 : Int32} {x3 : Int32} {σ : hc_St} {r : (Int32 × hc_St)} (h : fm_X13_narrowed  x1 x2 x3 σ = some r) (am : Nat → Nat → Nat) : hc_M l hc_V0 yX13_narrowed (ws_ yX13_narrowed cX13_narrowed 4 (some .int)) d E A [.ref (E.2.1 14), .int x1, .int x2, .int x3] am [13] σ (.inl (some (.int r.1))) r.2 := by
  have hd1 : 1 ≤ d := by omega
  have hd8 : 9 ≤ d := by omega
  refine hc_enter2 (own := RX13) [(0, .ref (E.2.1 14)), (1, .int x1), (2, .int x2), (3, .int x3)] pl_X13 rfl hc_V0_st hc_G0_nd rfl (Nat.le_of_ble_eq_true rfl) (fun X hC hem => ?_)
  unfold fm_X13_narrowed at h
  refine hr_aload_n hC dX13_narrowed_0 rfl ?_
  refine hr_gO 11 hC F14_2 rfl dX13_narrowed_1 q797 ?_
  refine hr_iload_n hC dX13_narrowed_4 rfl ?_
  obtain ⟨r1, e2, h⟩ := hx_bind h
  refine hs_callV0 hC 11 [_] _ dX13_narrowed_5 q2085 q1659 q1660 q325 q1661 np_X11 rfl OB_11 pd_X11_type (Nat.le_of_ble_eq_true rfl) hd1 (okX11_type l E A (d - 1)  (by omega)  e2 am) rfl ?_
  refine hr_iconst (v := 1) hC dX13_narrowed_8 rfl ?_
  obtain ⟨r7, e8, h⟩ := hx_bind h
  have J9 : ∀ am27, hc_At hc_V0 E 4 X 46 [(0, .ref (E.2.1 14)), (3, .int x3)] [] r7 am27 [] := by
    intro am27
    refine hr_aload_n hC dX13_narrowed_46 rfl ?_
    refine hr_iload_n hC dX13_narrowed_47 rfl ?_
    obtain ⟨r28, e29, h⟩ := hx_bind h
    refine hs_callV hC 14 [_] _ dX13_narrowed_48 q2142 q2144 qs116 q327 q2145 np_X13 rfl OB_14 pd_X13_keep (Nat.le_of_ble_eq_true rfl) hd1 (okX13_keep l E A (d - 1)  (by omega)  e29 am27) (hc_rb rfl) rfl (fun am30 ha31 => ?_)
    obtain rfl := Option.some.inj h
    exact hr_iret hC dX13_narrowed_51
  clear h
  have h := e8
  refine hr_icmp_ne (x := _) hC 33 dX13_narrowed_9 (by decide) (fun c6 => ?_) (fun c6 => ?_)
  · rw [if_neg c6] at h
    refine hr_aload_n hC dX13_narrowed_33 rfl ?_
    refine hr_gO 13 hC F14_5 rfl dX13_narrowed_34 q800 ?_
    refine hr_aload_n hC dX13_narrowed_37 rfl ?_
    refine hr_iload_n hC dX13_narrowed_38 rfl ?_
    obtain ⟨r11, e12, h⟩ := hx_bind h
    refine hs_callV0 hC 14 [_] _ dX13_narrowed_39 q2135 q2137 qs115 q327 q2138 np_X13 rfl OB_14 pd_X13_dest (Nat.le_of_ble_eq_true rfl) hd1 (okX13_dest l E A (d - 1)  (by omega)  e12 am) rfl ?_
    refine hr_iload_n hC dX13_narrowed_42 rfl ?_
    obtain ⟨r15, e16, h⟩ := hx_bind h
    refine hs_callV hC 13 [_, _] _ dX13_narrowed_43 q2007 q2008 q2009 q326 q2010 np_X12 rfl OB_13 pd_X12_move (Nat.le_of_ble_eq_true rfl) hd1 (okX12_move l E A (d - 1)  (by omega)  e16 am) (hc_rb rfl) rfl (fun am17 ha18 => ?_)
    obtain rfl := Option.some.inj h
    exact hr_sub _ rfl (J9 am17)
  · rw [if_pos c6] at h
    refine hr_aload_n hC dX13_narrowed_12 rfl ?_
    refine hr_gO 13 hC F14_5 rfl dX13_narrowed_13 q800 ?_
    refine hr_bipush (v := 7) hC dX13_narrowed_16 rfl ?_
    refine hr_aload_n hC dX13_narrowed_18 rfl ?_
    refine hr_iload_n hC dX13_narrowed_19 rfl ?_
    obtain ⟨r19, e20, h⟩ := hx_bind h
    refine hs_callV0 hC 14 [_] _ dX13_narrowed_20 q2135 q2137 qs115 q327 q2138 np_X13 rfl OB_14 pd_X13_dest (Nat.le_of_ble_eq_true rfl) hd1 (okX13_dest l E A (d - 1)  (by omega)  e20 am) rfl ?_
    refine hr_iload_n hC dX13_narrowed_23 rfl ?_
    refine hr_sipush (v := 255) hC dX13_narrowed_24 rfl ?_
    obtain ⟨r23, e24, h⟩ := hx_bind h
    refine hs_callV hC 13 [_, _, _, _] _ dX13_narrowed_27 q1992 q1913 q1914 q326 q1915 np_X12 rfl OB_13 pd_X12_number (Nat.le_of_ble_eq_true rfl) hd1 (okX12_number l E A (d - 1)  (by omega)  e24 am) (hc_rb rfl) rfl (fun am25 ha26 => ?_)
    refine hr_goto hC 46 dX13_narrowed_30 (by decide) ?_
    obtain rfl := Option.some.inj h
    exact hr_sub _ rfl (J9 am25)
/-- HomeCompiler$Generator.assignFromT0(I)V -/
def fm_X13_assignFromT0  (x1 : Int32) (σ : hc_St) : Option hc_St := Option.bind (fm_X11_type x1 σ) fun r1 => Option.bind (α := hc_St) (if r1 = 1 then (Option.bind (fm_X12_number 7 5 5 255 σ) fun r11 => some (r11)) else (some (σ))) fun r7 => Option.bind (fm_X11_owner x1 r7) fun r16 => Option.bind (α := hc_St) (if r16 = (-1) then (hk (inb x1 (gL r7 14 9)) <| Option.bind (fm_X12_set 6 ((gC r7 14 9 x1)) r7) fun r49 => Option.bind (fm_X12_store 2 6 5 0 r49) fun r53 => some (r53)) else (Option.bind (fm_X15_of x1 r7) fun r26 => if r26 = (-1) then (Option.bind (fm_X15_place_2 x1 r7) fun r32 => Option.bind (fm_X12_storeAt 5 8 ((-r32)) 7 r7) fun r36 => some (r36)) else (Option.bind (fm_X15_of x1 r7) fun r40 => Option.bind (fm_X12_move r40 5 r7) fun r44 => some (r44)))) fun r22 => some r22
set_option maxRecDepth 20000 in
set_option maxHeartbeats 4000000 in
theorem okX13_assignFromT0 (l : Launch) (E : hc_E) (A : Nat → Prop) (d : Nat)  (hD : 11 ≤ d) {x1 : Int32} {σ : hc_St} {r : hc_St} (h : fm_X13_assignFromT0  x1 σ = some r) (am : Nat → Nat → Nat) : hc_M l hc_V0 yX13_assignFromT0 (ws_ yX13_assignFromT0 cX13_assignFromT0 2 none) d E A [.ref (E.2.1 14), .int x1] am [13] σ (.inl none) r := by
  have hd1 : 1 ≤ d := by omega
  have hd8 : 9 ≤ d := by omega
  refine hc_enter2 (own := RX13) [(0, .ref (E.2.1 14)), (1, .int x1)] pl_X13 rfl hc_V0_st hc_G0_nd rfl (Nat.le_of_ble_eq_true rfl) (fun X hC hem => ?_)
  unfold fm_X13_assignFromT0 at h
  refine hr_aload_n hC dX13_assignFromT0_0 rfl ?_
  refine hr_gO 11 hC F14_2 rfl dX13_assignFromT0_1 q797 ?_
  refine hr_iload_n hC dX13_assignFromT0_4 rfl ?_
  obtain ⟨r1, e2, h⟩ := hx_bind h
  refine hs_callV0 hC 11 [_] _ dX13_assignFromT0_5 q2085 q1659 q1660 q325 q1661 np_X11 rfl OB_11 pd_X11_type (Nat.le_of_ble_eq_true rfl) hd1 (okX11_type l E A (d - 1)  (by omega)  e2 am) rfl ?_
  refine hr_iconst (v := 1) hC dX13_assignFromT0_8 rfl ?_
  obtain ⟨r7, e8, h⟩ := hx_bind h
  have J9 : ∀ am15, hc_At hc_V0 E 2 X 26 [(0, .ref (E.2.1 14)), (1, .int x1)] [] r7 am15 [] := by
    intro am15
    refine hr_aload_n hC dX13_assignFromT0_26 rfl ?_
    refine hr_gO 11 hC F14_2 rfl dX13_assignFromT0_27 q797 ?_
    refine hr_iload_n hC dX13_assignFromT0_30 rfl ?_
    obtain ⟨r16, e17, h⟩ := hx_bind h
    refine hs_callV0 hC 11 [_] _ dX13_assignFromT0_31 q1867 q1868 q1869 q325 q1870 np_X11 rfl OB_11 pd_X11_owner (Nat.le_of_ble_eq_true rfl) hd1 (okX11_owner l E A (d - 1)  (by omega)  e17 am15) rfl ?_
    refine hr_iconst (v := (-1)) hC dX13_assignFromT0_34 rfl ?_
    obtain ⟨r22, e23, h⟩ := hx_bind h
    have J24 : ∀ am57, hc_At hc_V0 E 2 X 120 [] [] r22 am57 [] := by
      intro am57
      obtain rfl := Option.some.inj h
      exact hr_vret hC dX13_assignFromT0_120
    clear h
    have h := e23
    refine hr_icmp_ne (x := _) hC 68 dX13_assignFromT0_35 (by decide) (fun c21 => ?_) (fun c21 => ?_)
    · rw [if_neg c21] at h
      refine hr_aload_n hC dX13_assignFromT0_68 rfl ?_
      refine hr_gO 16 hC F14_7 rfl dX13_assignFromT0_69 q802 ?_
      refine hr_iload_n hC dX13_assignFromT0_72 rfl ?_
      obtain ⟨r26, e27, h⟩ := hx_bind h
      refine hs_callV0 hC 16 [_] _ dX13_assignFromT0_73 q2044 q2045 q2046 q329 q2047 np_X15 rfl OB_16 pd_X15_of (Nat.le_of_ble_eq_true rfl) hd1 (okX15_of l E A (d - 1)  (by omega)  e27 am15) rfl ?_
      refine hr_iconst (v := (-1)) hC dX13_assignFromT0_76 rfl ?_
      refine hr_icmp_eq (x := _) hC 99 dX13_assignFromT0_77 (by decide) (fun c31 => ?_) (fun c31 => ?_)
      · rw [if_pos c31] at h
        refine hr_aload_n hC dX13_assignFromT0_99 rfl ?_
        refine hr_gO 13 hC F14_5 rfl dX13_assignFromT0_100 q800 ?_
        refine hr_iconst (v := 5) hC dX13_assignFromT0_103 rfl ?_
        refine hr_bipush (v := 8) hC dX13_assignFromT0_104 rfl ?_
        refine hr_aload_n hC dX13_assignFromT0_106 rfl ?_
        refine hr_gO 16 hC F14_7 rfl dX13_assignFromT0_107 q802 ?_
        refine hr_iload_n hC dX13_assignFromT0_110 rfl ?_
        obtain ⟨r32, e33, h⟩ := hx_bind h
        refine hs_callV0 hC 16 [_] _ dX13_assignFromT0_111 q2052 q2053 q2054 q329 q2055 np_X15 rfl OB_16 pd_X15_place_2 (Nat.le_of_ble_eq_true rfl) hd1 (okX15_place_2 l E A (d - 1)  (by omega)  e33 am15) rfl ?_
        refine hr_ineg hC dX13_assignFromT0_114 ?_
        refine hr_bipush (v := 7) hC dX13_assignFromT0_115 rfl ?_
        obtain ⟨r36, e37, h⟩ := hx_bind h
        refine hs_callV hC 13 [_, _, _, _] _ dX13_assignFromT0_117 q2020 q2021 q2022 q326 q2023 np_X12 rfl OB_13 pd_X12_storeAt (Nat.le_of_ble_eq_true rfl) hd1 (okX12_storeAt l E A (d - 1)  (by omega)  e37 am15) (hc_rb rfl) rfl (fun am38 ha39 => ?_)
        obtain rfl := Option.some.inj h
        exact hr_sub _ rfl (J24 am38)
      · rw [if_neg c31] at h
        refine hr_aload_n hC dX13_assignFromT0_80 rfl ?_
        refine hr_gO 13 hC F14_5 rfl dX13_assignFromT0_81 q800 ?_
        refine hr_aload_n hC dX13_assignFromT0_84 rfl ?_
        refine hr_gO 16 hC F14_7 rfl dX13_assignFromT0_85 q802 ?_
        refine hr_iload_n hC dX13_assignFromT0_88 rfl ?_
        obtain ⟨r40, e41, h⟩ := hx_bind h
        refine hs_callV0 hC 16 [_] _ dX13_assignFromT0_89 q2044 q2045 q2046 q329 q2047 np_X15 rfl OB_16 pd_X15_of (Nat.le_of_ble_eq_true rfl) hd1 (okX15_of l E A (d - 1)  (by omega)  e41 am15) rfl ?_
        refine hr_iconst (v := 5) hC dX13_assignFromT0_92 rfl ?_
        obtain ⟨r44, e45, h⟩ := hx_bind h
        refine hs_callV hC 13 [_, _] _ dX13_assignFromT0_93 q2007 q2008 q2009 q326 q2010 np_X12 rfl OB_13 pd_X12_move (Nat.le_of_ble_eq_true rfl) hd1 (okX12_move l E A (d - 1)  (by omega)  e45 am15) (hc_rb rfl) rfl (fun am46 ha47 => ?_)
        refine hr_goto hC 120 dX13_assignFromT0_96 (by decide) ?_
        obtain rfl := Option.some.inj h
        exact hr_sub _ rfl (J24 am46)
    · rw [if_pos c21] at h
      refine hr_aload_n hC dX13_assignFromT0_38 rfl ?_
      refine hr_gO 13 hC F14_5 rfl dX13_assignFromT0_39 q800 ?_
      refine hr_bipush (v := 6) hC dX13_assignFromT0_42 rfl ?_
      refine hr_aload_n hC dX13_assignFromT0_44 rfl ?_
      refine hr_gA hC F14_9 rfl dX13_assignFromT0_45 q804 ?_
      refine hr_iload_n hC dX13_assignFromT0_48 rfl ?_
      obtain ⟨c48, h⟩ := hk_ok h
      refine hs_iald hC A14_9 c48 dX13_assignFromT0_49 ?_
      obtain ⟨r49, e50, h⟩ := hx_bind h
      refine hs_callV hC 13 [_, _] _ dX13_assignFromT0_50 q1908 q1909 q1910 q326 q1911 np_X12 rfl OB_13 pd_X12_set (Nat.le_of_ble_eq_true rfl) hd1 (okX12_set l E A (d - 1)  (by omega)  e50 am15) (hc_rb rfl) rfl (fun am51 ha52 => ?_)
      refine hr_aload_n hC dX13_assignFromT0_53 rfl ?_
      refine hr_gO 13 hC F14_5 rfl dX13_assignFromT0_54 q800 ?_
      refine hr_iconst (v := 2) hC dX13_assignFromT0_57 rfl ?_
      refine hr_bipush (v := 6) hC dX13_assignFromT0_58 rfl ?_
      refine hr_iconst (v := 5) hC dX13_assignFromT0_60 rfl ?_
      refine hr_iconst (v := 0) hC dX13_assignFromT0_61 rfl ?_
      obtain ⟨r53, e54, h⟩ := hx_bind h
      refine hs_callV hC 13 [_, _, _, _] _ dX13_assignFromT0_62 q1896 q1897 q1898 q326 q1899 np_X12 rfl OB_13 pd_X12_store (Nat.le_of_ble_eq_true rfl) hd1 (okX12_store l E A (d - 1)  (by omega)  e54 am51) (hc_rb rfl) rfl (fun am55 ha56 => ?_)
      refine hr_goto hC 120 dX13_assignFromT0_65 (by decide) ?_
      obtain rfl := Option.some.inj h
      exact hr_sub _ rfl (J24 am55)
  clear h
  have h := e8
  refine hr_icmp_ne (x := _) hC 26 dX13_assignFromT0_9 (by decide) (fun c6 => ?_) (fun c6 => ?_)
  · rw [if_neg c6] at h
    obtain rfl := Option.some.inj h
    exact hr_sub _ rfl (J9 am)
  · rw [if_pos c6] at h
    refine hr_aload_n hC dX13_assignFromT0_12 rfl ?_
    refine hr_gO 13 hC F14_5 rfl dX13_assignFromT0_13 q800 ?_
    refine hr_bipush (v := 7) hC dX13_assignFromT0_16 rfl ?_
    refine hr_iconst (v := 5) hC dX13_assignFromT0_18 rfl ?_
    refine hr_iconst (v := 5) hC dX13_assignFromT0_19 rfl ?_
    refine hr_sipush (v := 255) hC dX13_assignFromT0_20 rfl ?_
    obtain ⟨r11, e12, h⟩ := hx_bind h
    refine hs_callV hC 13 [_, _, _, _] _ dX13_assignFromT0_23 q1992 q1913 q1914 q326 q1915 np_X12 rfl OB_13 pd_X12_number (Nat.le_of_ble_eq_true rfl) hd1 (okX12_number l E A (d - 1)  (by omega)  e12 am) (hc_rb rfl) rfl (fun am13 ha14 => ?_)
    obtain rfl := Option.some.inj h
    exact hr_sub _ rfl (J9 am13)
/-- HomeCompiler$Generator.isShort(II)Z -/
def fm_X13_isShort  (x0 : Int32) (x1 : Int32) (σ : hc_St) : Option Int32 := hl (α := Int32) ((if x1 ≤ (-2048) then 0 else (if 2048 ≤ x1 then 0 else 1))) fun v3 => if x0 = 38 then (hk (hb01 v3) <| some v3) else if x0 = 42 then (hl (α := Int32) ((if x1 ≤ 0 then 0 else (if (x1 &&& ((x1 - 1))) = 0 then 1 else 0))) fun v7 => hk (hb01 v7) <| some v7) else if x0 = 43 then (hk (hb01 v3) <| some v3) else if x0 = 45 then (hk (hb01 v3) <| some v3) else if x0 = 60 then (hk (hb01 v3) <| some v3) else if x0 = 94 then (hk (hb01 v3) <| some v3) else if x0 = 124 then (hk (hb01 v3) <| some v3) else if x0 = 134 then (some 1) else if x0 = 135 then (some 1) else (some 0)
set_option maxRecDepth 20000 in
set_option maxHeartbeats 4000000 in
theorem okX13_isShort (l : Launch) (E : hc_E) (A : Nat → Prop) (d : Nat)  (hD : 1 ≤ d) {x0 : Int32} {x1 : Int32} {σ : hc_St} {r : Int32} (h : fm_X13_isShort  x0 x1 σ = some r) (am : Nat → Nat → Nat) : hc_M l hc_V0 yX13_isShort (ws_ yX13_isShort cX13_isShort 3 (some .boolean)) d E A [.int x0, .int x1] am [] σ (.inl (some (.int r))) σ := by
  have hd1 : 1 ≤ d := by omega
  refine hc_enter2 (own := RX13) [(0, .int x0), (1, .int x1)] pl_X13 rfl hc_V0_st hc_G0_nd rfl (Nat.le_of_ble_eq_true rfl) (fun X hC hem => ?_)
  unfold fm_X13_isShort at h
  refine hr_iload_n hC dX13_isShort_0 rfl ?_
  refine hr_sipush (v := (-2048)) hC dX13_isShort_1 rfl ?_
  obtain ⟨v3, hv3, h⟩ := hl_ok h
  have J27 : ∀ w28 : Int32, (if x1 ≤ (-2048) then 0 else (if 2048 ≤ x1 then 0 else 1)) = w28 → hc_At hc_V0 E 3 X 19 [(0, .int x0), (1, .int x1)] [.int w28] σ am [] := by
    intro w28 hw28
    obtain rfl := hv3.trans hw28
    refine hr_istore_n hC dX13_isShort_19 (by decide) ?_
    refine hr_iload_n hC dX13_isShort_20 rfl ?_
    by_cases c18 : x0 = 38
    · rw [if_pos c18] at h
      refine hr_lookup hC 104 dX13_isShort_21 (by decide) (by rw [c18] <;> rfl) (by decide) ?_
      refine hr_iload_n hC dX13_isShort_104 rfl ?_
      obtain ⟨c4, h⟩ := hk_ok h
      obtain rfl := Option.some.inj h
      exact hr_zret hC (hb01_n c4) dX13_isShort_105
    rw [if_neg c18] at h
    by_cases c19 : x0 = 42
    · rw [if_pos c19] at h
      refine hr_lookup hC 108 dX13_isShort_21 (by decide) (by rw [c19] <;> rfl) (by decide) ?_
      refine hr_iload_n hC dX13_isShort_108 rfl ?_
      obtain ⟨v7, hv7, h⟩ := hl_ok h
      have J9 : ∀ w10 : Int32, (if x1 ≤ 0 then 0 else (if (x1 &&& ((x1 - 1))) = 0 then 1 else 0)) = w10 → hc_At hc_V0 E 3 X 125 [] [.int w10] σ am [] := by
        intro w10 hw10
        obtain rfl := hv7.trans hw10
        obtain ⟨c8, h⟩ := hk_ok h
        obtain rfl := Option.some.inj h
        exact hr_zret hC (hb01_n c8) dX13_isShort_125
      refine hr_if_le (x := _) hC 124 dX13_isShort_109 (by decide) (fun c11 => ?_) (fun c11 => ?_)
      · refine hr_iconst (v := 0) hC dX13_isShort_124 rfl ?_
        exact hr_sub _ rfl (J9 _ (by first | (rw [if_pos c11]; done) | (simp only [if_pos c11]; done) | rfl))
      · refine hr_iload_n hC dX13_isShort_112 rfl ?_
        refine hr_iload_n hC dX13_isShort_113 rfl ?_
        refine hr_iconst (v := 1) hC dX13_isShort_114 rfl ?_
        refine hr_isub hC dX13_isShort_115 ?_
        refine hr_iand hC dX13_isShort_116 ?_
        refine hr_if_ne (x := _) hC 124 dX13_isShort_117 (by decide) (fun c12 => ?_) (fun c12 => ?_)
        · refine hr_iconst (v := 0) hC dX13_isShort_124 rfl ?_
          exact hr_sub _ rfl (J9 _ (by first | (rw [if_neg c11, if_neg c12]; done) | (simp only [if_neg c11, if_neg c12]; done) | rfl))
        · refine hr_iconst (v := 1) hC dX13_isShort_120 rfl ?_
          refine hr_goto hC 125 dX13_isShort_121 (by decide) ?_
          exact hr_sub _ rfl (J9 _ (by first | (rw [if_neg c11, if_pos c12]; done) | (simp only [if_neg c11, if_pos c12]; done) | rfl))
    rw [if_neg c19] at h
    by_cases c20 : x0 = 43
    · rw [if_pos c20] at h
      refine hr_lookup hC 104 dX13_isShort_21 (by decide) (by rw [c20] <;> rfl) (by decide) ?_
      refine hr_iload_n hC dX13_isShort_104 rfl ?_
      obtain ⟨c13, h⟩ := hk_ok h
      obtain rfl := Option.some.inj h
      exact hr_zret hC (hb01_n c13) dX13_isShort_105
    rw [if_neg c20] at h
    by_cases c21 : x0 = 45
    · rw [if_pos c21] at h
      refine hr_lookup hC 104 dX13_isShort_21 (by decide) (by rw [c21] <;> rfl) (by decide) ?_
      refine hr_iload_n hC dX13_isShort_104 rfl ?_
      obtain ⟨c14, h⟩ := hk_ok h
      obtain rfl := Option.some.inj h
      exact hr_zret hC (hb01_n c14) dX13_isShort_105
    rw [if_neg c21] at h
    by_cases c22 : x0 = 60
    · rw [if_pos c22] at h
      refine hr_lookup hC 104 dX13_isShort_21 (by decide) (by rw [c22] <;> rfl) (by decide) ?_
      refine hr_iload_n hC dX13_isShort_104 rfl ?_
      obtain ⟨c15, h⟩ := hk_ok h
      obtain rfl := Option.some.inj h
      exact hr_zret hC (hb01_n c15) dX13_isShort_105
    rw [if_neg c22] at h
    by_cases c23 : x0 = 94
    · rw [if_pos c23] at h
      refine hr_lookup hC 104 dX13_isShort_21 (by decide) (by rw [c23] <;> rfl) (by decide) ?_
      refine hr_iload_n hC dX13_isShort_104 rfl ?_
      obtain ⟨c16, h⟩ := hk_ok h
      obtain rfl := Option.some.inj h
      exact hr_zret hC (hb01_n c16) dX13_isShort_105
    rw [if_neg c23] at h
    by_cases c24 : x0 = 124
    · rw [if_pos c24] at h
      refine hr_lookup hC 104 dX13_isShort_21 (by decide) (by rw [c24] <;> rfl) (by decide) ?_
      refine hr_iload_n hC dX13_isShort_104 rfl ?_
      obtain ⟨c17, h⟩ := hk_ok h
      obtain rfl := Option.some.inj h
      exact hr_zret hC (hb01_n c17) dX13_isShort_105
    rw [if_neg c24] at h
    by_cases c25 : x0 = 134
    · rw [if_pos c25] at h
      refine hr_lookup hC 106 dX13_isShort_21 (by decide) (by rw [c25] <;> rfl) (by decide) ?_
      refine hr_iconst (v := 1) hC dX13_isShort_106 rfl ?_
      obtain rfl := Option.some.inj h
      exact hr_zret hC rfl dX13_isShort_107
    rw [if_neg c25] at h
    by_cases c26 : x0 = 135
    · rw [if_pos c26] at h
      refine hr_lookup hC 106 dX13_isShort_21 (by decide) (by rw [c26] <;> rfl) (by decide) ?_
      refine hr_iconst (v := 1) hC dX13_isShort_106 rfl ?_
      obtain rfl := Option.some.inj h
      exact hr_zret hC rfl dX13_isShort_107
    rw [if_neg c26] at h
    refine hr_lookup hC 126 dX13_isShort_21 (by decide) (hc_lkD (hc_l1 (hc_ne c18 rfl) (hc_l1 (hc_ne c19 rfl) (hc_l1 (hc_ne c20 rfl) (hc_l1 (hc_ne c21 rfl) (hc_l1 (hc_ne c22 rfl) (hc_l1 (hc_ne c23 rfl) (hc_l1 (hc_ne c24 rfl) (hc_l1 (hc_ne c25 rfl) (hc_l1 (hc_ne c26 rfl) hc_l0)))))))))) (by decide) ?_
    refine hr_iconst (v := 0) hC dX13_isShort_126 rfl ?_
    obtain rfl := Option.some.inj h
    exact hr_zret hC rfl dX13_isShort_127
  refine hr_icmp_le (x := _) hC 18 dX13_isShort_4 (by decide) (fun c29 => ?_) (fun c29 => ?_)
  · refine hr_iconst (v := 0) hC dX13_isShort_18 rfl ?_
    exact hr_sub _ rfl (J27 _ (by first | (rw [if_pos c29]; done) | (simp only [if_pos c29]; done) | rfl))
  · refine hr_iload_n hC dX13_isShort_7 rfl ?_
    refine hr_sipush (v := 2048) hC dX13_isShort_8 rfl ?_
    refine hr_icmp_ge (x := _) hC 18 dX13_isShort_11 (by decide) (fun c30 => ?_) (fun c30 => ?_)
    · refine hr_iconst (v := 0) hC dX13_isShort_18 rfl ?_
      exact hr_sub _ rfl (J27 _ (by first | (rw [if_neg c29, if_pos c30]; done) | (simp only [if_neg c29, if_pos c30]; done) | rfl))
    · refine hr_iconst (v := 1) hC dX13_isShort_14 rfl ?_
      refine hr_goto hC 19 dX13_isShort_15 (by decide) ?_
      exact hr_sub _ rfl (J27 _ (by first | (rw [if_neg c29, if_neg c30]; done) | (simp only [if_neg c29, if_neg c30]; done) | rfl))
def lp_X13_power_2 (n : Nat) : Nat → Int32 → Int32 → hc_St → Option (Int32)
  | 0, _, _, _ => none
  | m + 1, y0, y1, σ => if (jshl 1 y1) = y0 then (some (y1)) else (lp_X13_power_2 n m y0 ((y1 + 1)) σ)
/-- HomeCompiler$Generator.power(I)I -/
def fm_X13_power (n : Nat) (x0 : Int32) (σ : hc_St) : Option Int32 := Option.bind (lp_X13_power_2 n n x0 0 σ) fun r3 => some r3
set_option maxRecDepth 20000 in
set_option maxHeartbeats 4000000 in
theorem ll_X13_power_2 {l : Launch} {E : hc_E} {A : Nat → Prop} {am : Nat → Nat → Nat} {d : Nat} {X : hc_X} (n : Nat) (hD : 1 ≤ d) (hem : X.2.2.2.2.2.2.2.2.2.1.exceptionTable.isEmpty = true) {oc : hc_Oc} {σe : hc_St} (hC : hc_C hc_V0 E cX13_power 2 RX13 (some .int) d oc σe (l, A, am, []) X) : ∀ (m : Nat) (σ : hc_St) (y0 : Int32) (y1 : Int32) (rl : Int32) (am1 : Nat → Nat → Nat), lp_X13_power_2 n m y0 y1 σ = some rl → (hc_At hc_V0 E 2 X 15 [(1, .int rl)] [] σ am1 []) → hc_At hc_V0 E 2 X 2 [(0, .int y0), (1, .int y1)] [] σ am1 [] := by
  have hd1 : 1 ≤ d := by omega
  intro m
  induction m with
  | zero =>
    intro σ y0 y1 rl am1 h
    cases h
  | succ m ih =>
    intro σ y0 y1 rl am1 h JX
    rw [lp_X13_power_2] at h
    refine hr_iconst (v := 1) hC dX13_power_2 rfl ?_
    refine hr_iload_n hC dX13_power_3 rfl ?_
    refine hr_ishl hC dX13_power_4 ?_
    refine hr_iload_n hC dX13_power_5 rfl ?_
    refine hr_icmp_eq (x := _) hC 15 dX13_power_6 (by decide) (fun c2 => ?_) (fun c2 => ?_)
    · rw [if_pos c2] at h
      obtain rfl := Option.some.inj h
      exact hr_sub _ rfl (JX)
    · rw [if_neg c2] at h
      refine hr_iinc (v := y1 + 1) hC dX13_power_9 rfl rfl (by decide) ?_
      refine hr_goto hC 2 dX13_power_12 (by decide) ?_
      exact hr_sub _ rfl (ih _ _ _ _ am1 h JX)
set_option maxRecDepth 20000 in
set_option maxHeartbeats 4000000 in
theorem okX13_power (l : Launch) (E : hc_E) (A : Nat → Prop) (d : Nat) (n : Nat) (hD : 1 ≤ d) {x0 : Int32} {σ : hc_St} {r : Int32} (h : fm_X13_power n x0 σ = some r) (am : Nat → Nat → Nat) : hc_M l hc_V0 yX13_power (ws_ yX13_power cX13_power 2 (some .int)) d E A [.int x0] am [] σ (.inl (some (.int r))) σ := by
  have hd1 : 1 ≤ d := by omega
  refine hc_enter2 (own := RX13) [(0, .int x0)] pl_X13 rfl hc_V0_st hc_G0_nd rfl (Nat.le_of_ble_eq_true rfl) (fun X hC hem => ?_)
  unfold fm_X13_power at h
  refine hr_iconst (v := 0) hC dX13_power_0 rfl ?_
  refine hr_istore_n hC dX13_power_1 (by decide) ?_
  obtain ⟨r3, e4, h⟩ := hx_bind h
  refine hr_sub _ rfl (ll_X13_power_2 n hD hem hC n _ _ _ _ am e4 ?_)
  refine hr_iload_n hC dX13_power_15 rfl ?_
  obtain rfl := Option.some.inj h
  exact hr_iret hC dX13_power_16
/-- HomeCompiler$Generator.withNumber(IIII)V -/
def fm_X13_withNumber (n : Nat) (x1 : Int32) (x2 : Int32) (x3 : Int32) (x4 : Int32) (σ : hc_St) : Option hc_St := Option.bind (α := hc_St) (if x1 = 38 then (Option.bind (fm_X12_number 7 x2 x3 x4 σ) fun r13 => some (r13)) else if x1 = 43 then (Option.bind (fm_X12_number 0 x2 x3 x4 σ) fun r17 => some (r17)) else if x1 = 45 then (Option.bind (fm_X12_number 0 x2 x3 ((-x4)) σ) fun r21 => some (r21)) else if x1 = 60 then (Option.bind (fm_X12_number 2 x2 x3 x4 σ) fun r25 => some (r25)) else if x1 = 94 then (Option.bind (fm_X12_number 4 x2 x3 x4 σ) fun r29 => some (r29)) else if x1 = 124 then (Option.bind (fm_X12_number 6 x2 x3 x4 σ) fun r33 => some (r33)) else if x1 = 134 then (Option.bind (fm_X12_number 1 x2 x3 ((x4 &&& 31)) σ) fun r37 => some (r37)) else if x1 = 135 then (Option.bind (fm_X12_number 5 x2 x3 ((((x4 &&& 31)) ||| 1024)) σ) fun r41 => some (r41)) else (Option.bind (fm_X13_power n x4 σ) fun r5 => Option.bind (fm_X12_number 1 x2 x3 r5 σ) fun r9 => some (r9))) fun r1 => some r1
set_option maxRecDepth 20000 in
set_option maxHeartbeats 4000000 in
theorem okX13_withNumber (l : Launch) (E : hc_E) (A : Nat → Prop) (d : Nat) (n : Nat) (hD : 7 ≤ d) {x1 : Int32} {x2 : Int32} {x3 : Int32} {x4 : Int32} {σ : hc_St} {r : hc_St} (h : fm_X13_withNumber n x1 x2 x3 x4 σ = some r) (am : Nat → Nat → Nat) : hc_M l hc_V0 yX13_withNumber (ws_ yX13_withNumber cX13_withNumber 5 none) d E A [.ref (E.2.1 14), .int x1, .int x2, .int x3, .int x4] am [13] σ (.inl none) r := by
  have hd1 : 1 ≤ d := by omega
  refine hc_enter2 (own := RX13) [(0, .ref (E.2.1 14)), (1, .int x1), (2, .int x2), (3, .int x3), (4, .int x4)] pl_X13 rfl hc_V0_st hc_G0_nd rfl (Nat.le_of_ble_eq_true rfl) (fun X hC hem => ?_)
  unfold fm_X13_withNumber at h
  refine hr_iload_n hC dX13_withNumber_0 rfl ?_
  obtain ⟨r1, e2, h⟩ := hx_bind h
  have J3 : ∀ am53, hc_At hc_V0 E 5 X 224 [] [] r1 am53 [] := by
    intro am53
    obtain rfl := Option.some.inj h
    exact hr_vret hC dX13_withNumber_224
  clear h
  have h := e2
  by_cases c45 : x1 = 38
  · rw [if_pos c45] at h
    refine hr_lookup hC 107 dX13_withNumber_1 (by decide) (by rw [c45] <;> rfl) (by decide) ?_
    refine hr_aload_n hC dX13_withNumber_107 rfl ?_
    refine hr_gO 13 hC F14_5 rfl dX13_withNumber_108 q800 ?_
    refine hr_bipush (v := 7) hC dX13_withNumber_111 rfl ?_
    refine hr_iload_n hC dX13_withNumber_113 rfl ?_
    refine hr_iload_n hC dX13_withNumber_114 rfl ?_
    refine hr_iload hC dX13_withNumber_115 rfl ?_
    obtain ⟨r13, e14, h⟩ := hx_bind h
    refine hs_callV hC 13 [_, _, _, _] _ dX13_withNumber_117 q1992 q1913 q1914 q326 q1915 np_X12 rfl OB_13 pd_X12_number (Nat.le_of_ble_eq_true rfl) hd1 (okX12_number l E A (d - 1)  (by omega)  e14 am) (hc_rb rfl) rfl (fun am15 ha16 => ?_)
    refine hr_goto hC 224 dX13_withNumber_120 (by decide) ?_
    obtain rfl := Option.some.inj h
    exact hr_sub _ rfl (J3 am15)
  rw [if_neg c45] at h
  by_cases c46 : x1 = 43
  · rw [if_pos c46] at h
    refine hr_lookup hC 76 dX13_withNumber_1 (by decide) (by rw [c46] <;> rfl) (by decide) ?_
    refine hr_aload_n hC dX13_withNumber_76 rfl ?_
    refine hr_gO 13 hC F14_5 rfl dX13_withNumber_77 q800 ?_
    refine hr_iconst (v := 0) hC dX13_withNumber_80 rfl ?_
    refine hr_iload_n hC dX13_withNumber_81 rfl ?_
    refine hr_iload_n hC dX13_withNumber_82 rfl ?_
    refine hr_iload hC dX13_withNumber_83 rfl ?_
    obtain ⟨r17, e18, h⟩ := hx_bind h
    refine hs_callV hC 13 [_, _, _, _] _ dX13_withNumber_85 q1992 q1913 q1914 q326 q1915 np_X12 rfl OB_13 pd_X12_number (Nat.le_of_ble_eq_true rfl) hd1 (okX12_number l E A (d - 1)  (by omega)  e18 am) (hc_rb rfl) rfl (fun am19 ha20 => ?_)
    refine hr_goto hC 224 dX13_withNumber_88 (by decide) ?_
    obtain rfl := Option.some.inj h
    exact hr_sub _ rfl (J3 am19)
  rw [if_neg c46] at h
  by_cases c47 : x1 = 45
  · rw [if_pos c47] at h
    refine hr_lookup hC 91 dX13_withNumber_1 (by decide) (by rw [c47] <;> rfl) (by decide) ?_
    refine hr_aload_n hC dX13_withNumber_91 rfl ?_
    refine hr_gO 13 hC F14_5 rfl dX13_withNumber_92 q800 ?_
    refine hr_iconst (v := 0) hC dX13_withNumber_95 rfl ?_
    refine hr_iload_n hC dX13_withNumber_96 rfl ?_
    refine hr_iload_n hC dX13_withNumber_97 rfl ?_
    refine hr_iload hC dX13_withNumber_98 rfl ?_
    refine hr_ineg hC dX13_withNumber_100 ?_
    obtain ⟨r21, e22, h⟩ := hx_bind h
    refine hs_callV hC 13 [_, _, _, _] _ dX13_withNumber_101 q1992 q1913 q1914 q326 q1915 np_X12 rfl OB_13 pd_X12_number (Nat.le_of_ble_eq_true rfl) hd1 (okX12_number l E A (d - 1)  (by omega)  e22 am) (hc_rb rfl) rfl (fun am23 ha24 => ?_)
    refine hr_goto hC 224 dX13_withNumber_104 (by decide) ?_
    obtain rfl := Option.some.inj h
    exact hr_sub _ rfl (J3 am23)
  rw [if_neg c47] at h
  by_cases c48 : x1 = 60
  · rw [if_pos c48] at h
    refine hr_lookup hC 154 dX13_withNumber_1 (by decide) (by rw [c48] <;> rfl) (by decide) ?_
    refine hr_aload_n hC dX13_withNumber_154 rfl ?_
    refine hr_gO 13 hC F14_5 rfl dX13_withNumber_155 q800 ?_
    refine hr_iconst (v := 2) hC dX13_withNumber_158 rfl ?_
    refine hr_iload_n hC dX13_withNumber_159 rfl ?_
    refine hr_iload_n hC dX13_withNumber_160 rfl ?_
    refine hr_iload hC dX13_withNumber_161 rfl ?_
    obtain ⟨r25, e26, h⟩ := hx_bind h
    refine hs_callV hC 13 [_, _, _, _] _ dX13_withNumber_163 q1992 q1913 q1914 q326 q1915 np_X12 rfl OB_13 pd_X12_number (Nat.le_of_ble_eq_true rfl) hd1 (okX12_number l E A (d - 1)  (by omega)  e26 am) (hc_rb rfl) rfl (fun am27 ha28 => ?_)
    refine hr_goto hC 224 dX13_withNumber_166 (by decide) ?_
    obtain rfl := Option.some.inj h
    exact hr_sub _ rfl (J3 am27)
  rw [if_neg c48] at h
  by_cases c49 : x1 = 94
  · rw [if_pos c49] at h
    refine hr_lookup hC 139 dX13_withNumber_1 (by decide) (by rw [c49] <;> rfl) (by decide) ?_
    refine hr_aload_n hC dX13_withNumber_139 rfl ?_
    refine hr_gO 13 hC F14_5 rfl dX13_withNumber_140 q800 ?_
    refine hr_iconst (v := 4) hC dX13_withNumber_143 rfl ?_
    refine hr_iload_n hC dX13_withNumber_144 rfl ?_
    refine hr_iload_n hC dX13_withNumber_145 rfl ?_
    refine hr_iload hC dX13_withNumber_146 rfl ?_
    obtain ⟨r29, e30, h⟩ := hx_bind h
    refine hs_callV hC 13 [_, _, _, _] _ dX13_withNumber_148 q1992 q1913 q1914 q326 q1915 np_X12 rfl OB_13 pd_X12_number (Nat.le_of_ble_eq_true rfl) hd1 (okX12_number l E A (d - 1)  (by omega)  e30 am) (hc_rb rfl) rfl (fun am31 ha32 => ?_)
    refine hr_goto hC 224 dX13_withNumber_151 (by decide) ?_
    obtain rfl := Option.some.inj h
    exact hr_sub _ rfl (J3 am31)
  rw [if_neg c49] at h
  by_cases c50 : x1 = 124
  · rw [if_pos c50] at h
    refine hr_lookup hC 123 dX13_withNumber_1 (by decide) (by rw [c50] <;> rfl) (by decide) ?_
    refine hr_aload_n hC dX13_withNumber_123 rfl ?_
    refine hr_gO 13 hC F14_5 rfl dX13_withNumber_124 q800 ?_
    refine hr_bipush (v := 6) hC dX13_withNumber_127 rfl ?_
    refine hr_iload_n hC dX13_withNumber_129 rfl ?_
    refine hr_iload_n hC dX13_withNumber_130 rfl ?_
    refine hr_iload hC dX13_withNumber_131 rfl ?_
    obtain ⟨r33, e34, h⟩ := hx_bind h
    refine hs_callV hC 13 [_, _, _, _] _ dX13_withNumber_133 q1992 q1913 q1914 q326 q1915 np_X12 rfl OB_13 pd_X12_number (Nat.le_of_ble_eq_true rfl) hd1 (okX12_number l E A (d - 1)  (by omega)  e34 am) (hc_rb rfl) rfl (fun am35 ha36 => ?_)
    refine hr_goto hC 224 dX13_withNumber_136 (by decide) ?_
    obtain rfl := Option.some.inj h
    exact hr_sub _ rfl (J3 am35)
  rw [if_neg c50] at h
  by_cases c51 : x1 = 134
  · rw [if_pos c51] at h
    refine hr_lookup hC 169 dX13_withNumber_1 (by decide) (by rw [c51] <;> rfl) (by decide) ?_
    refine hr_aload_n hC dX13_withNumber_169 rfl ?_
    refine hr_gO 13 hC F14_5 rfl dX13_withNumber_170 q800 ?_
    refine hr_iconst (v := 1) hC dX13_withNumber_173 rfl ?_
    refine hr_iload_n hC dX13_withNumber_174 rfl ?_
    refine hr_iload_n hC dX13_withNumber_175 rfl ?_
    refine hr_iload hC dX13_withNumber_176 rfl ?_
    refine hr_bipush (v := 31) hC dX13_withNumber_178 rfl ?_
    refine hr_iand hC dX13_withNumber_180 ?_
    obtain ⟨r37, e38, h⟩ := hx_bind h
    refine hs_callV hC 13 [_, _, _, _] _ dX13_withNumber_181 q1992 q1913 q1914 q326 q1915 np_X12 rfl OB_13 pd_X12_number (Nat.le_of_ble_eq_true rfl) hd1 (okX12_number l E A (d - 1)  (by omega)  e38 am) (hc_rb rfl) rfl (fun am39 ha40 => ?_)
    refine hr_goto hC 224 dX13_withNumber_184 (by decide) ?_
    obtain rfl := Option.some.inj h
    exact hr_sub _ rfl (J3 am39)
  rw [if_neg c51] at h
  by_cases c52 : x1 = 135
  · rw [if_pos c52] at h
    refine hr_lookup hC 187 dX13_withNumber_1 (by decide) (by rw [c52] <;> rfl) (by decide) ?_
    refine hr_aload_n hC dX13_withNumber_187 rfl ?_
    refine hr_gO 13 hC F14_5 rfl dX13_withNumber_188 q800 ?_
    refine hr_iconst (v := 5) hC dX13_withNumber_191 rfl ?_
    refine hr_iload_n hC dX13_withNumber_192 rfl ?_
    refine hr_iload_n hC dX13_withNumber_193 rfl ?_
    refine hr_iload hC dX13_withNumber_194 rfl ?_
    refine hr_bipush (v := 31) hC dX13_withNumber_196 rfl ?_
    refine hr_iand hC dX13_withNumber_198 ?_
    refine hr_sipush (v := 1024) hC dX13_withNumber_199 rfl ?_
    refine hr_ior hC dX13_withNumber_202 ?_
    obtain ⟨r41, e42, h⟩ := hx_bind h
    refine hs_callV hC 13 [_, _, _, _] _ dX13_withNumber_203 q1992 q1913 q1914 q326 q1915 np_X12 rfl OB_13 pd_X12_number (Nat.le_of_ble_eq_true rfl) hd1 (okX12_number l E A (d - 1)  (by omega)  e42 am) (hc_rb rfl) rfl (fun am43 ha44 => ?_)
    refine hr_goto hC 224 dX13_withNumber_206 (by decide) ?_
    obtain rfl := Option.some.inj h
    exact hr_sub _ rfl (J3 am43)
  rw [if_neg c52] at h
  refine hr_lookup hC 209 dX13_withNumber_1 (by decide) (hc_lkD (hc_l1 (hc_ne c45 rfl) (hc_l1 (hc_ne c46 rfl) (hc_l1 (hc_ne c47 rfl) (hc_l1 (hc_ne c48 rfl) (hc_l1 (hc_ne c49 rfl) (hc_l1 (hc_ne c50 rfl) (hc_l1 (hc_ne c51 rfl) (hc_l1 (hc_ne c52 rfl) hc_l0))))))))) (by decide) ?_
  refine hr_aload_n hC dX13_withNumber_209 rfl ?_
  refine hr_gO 13 hC F14_5 rfl dX13_withNumber_210 q800 ?_
  refine hr_iconst (v := 1) hC dX13_withNumber_213 rfl ?_
  refine hr_iload_n hC dX13_withNumber_214 rfl ?_
  refine hr_iload_n hC dX13_withNumber_215 rfl ?_
  refine hr_iload hC dX13_withNumber_216 rfl ?_
  obtain ⟨r5, e6, h⟩ := hx_bind h
  refine hs_callS0 hC [_] _ dX13_withNumber_218 q2297 q2298 q327 q2299 np_X13 rfl pd_X13_power (Nat.le_of_ble_eq_true rfl) hd1 (okX13_power l E A (d - 1) n (by omega)  e6 am) rfl ?_
  obtain ⟨r9, e10, h⟩ := hx_bind h
  refine hs_callV hC 13 [_, _, _, _] _ dX13_withNumber_221 q1992 q1913 q1914 q326 q1915 np_X12 rfl OB_13 pd_X12_number (Nat.le_of_ble_eq_true rfl) hd1 (okX12_number l E A (d - 1)  (by omega)  e10 am) (hc_rb rfl) rfl (fun am11 ha12 => ?_)
  obtain rfl := Option.some.inj h
  exact hr_sub _ rfl (J3 am11)
