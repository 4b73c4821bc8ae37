/-! ===== the JDK's Strings ===== -/
theorem hc_lext {a b : List Int32} (hl : a.length = b.length) (h : ∀ k, k < a.length → a.getD k 0 = b.getD k 0) : a = b := by
  apply List.ext_getElem hl
  intro k q1 q2
  have := h k q1
  simpa [List.getD_eq_getElem?_getD, List.getElem?_eq_getElem q1, List.getElem?_eq_getElem q2] using this
theorem hs_n : hs_L.length = 143 := by decide +kernel
theorem hs_asc : (hs_L.all fun l => l.all fun b => decide (b &&& 255 = b) && decide ((b.toUInt32 % 65536).toInt32 = b)) = true := by decide +kernel
theorem hs_len : (hs_L.all fun l => decide (l.length ≤ 100)) = true := by decide +kernel
theorem hs_len1 {i : Nat} (hi : i < hs_L.length) : (hs_L.getD i []).length ≤ 100 := by
  have h := List.all_eq_true.mp hs_len (hs_L.getD i []) (by rw [List.getD_eq_getElem?_getD, List.getElem?_eq_getElem hi]; exact List.getElem_mem hi)
  exact of_decide_eq_true h
theorem hs_asc1 {i j : Nat} (hi : i < hs_L.length) (hj : j < (hs_L.getD i []).length) : (hs_L.getD i []).getD j 0 &&& 255 = (hs_L.getD i []).getD j 0 ∧ (((hs_L.getD i []).getD j 0).toUInt32 % 65536).toInt32 = (hs_L.getD i []).getD j 0 := by
  have h := List.all_eq_true.mp hs_asc (hs_L.getD i []) (by rw [List.getD_eq_getElem?_getD, List.getElem?_eq_getElem hi]; exact List.getElem_mem hi)
  generalize hs_L.getD i [] = l at *
  have h1 := List.all_eq_true.mp h (l.getD j 0) (by rw [List.getD_eq_getElem?_getD, List.getElem?_eq_getElem hj]; exact List.getElem_mem hj)
  simp only [Bool.and_eq_true, decide_eq_true_eq] at h1
  exact h1
/-- two Strings at one address are the same text -/
theorem hc_Zinj {E : hc_E} {A : Nat → Prop} {U : State} {H : Heap} (h : hc_Z hs_L hs_R E A U H) {i j : Nat} (hi : i < hs_L.length) (hj : j < hs_L.length) (e : E.2.2.2.1 i = E.2.2.2.1 j) : hs_L.getD i [] = hs_L.getD j [] := by
  obtain ⟨-, -, a1, b1⟩ := h.1 i hi
  obtain ⟨-, -, a2, b2⟩ := h.1 j hj
  have ev : E.2.2.2.2 i = E.2.2.2.2 j := by
    obtain ⟨cf, k, fi, f, cell, x1, x2, x3, x4, x5, -⟩ := a1
    obtain ⟨cf', k', fi', f', cell', y1, y2, y3, y4, y5, -⟩ := a2
    rw [e] at x3
    cases x3.symm.trans y3
    cases x1.symm.trans y1
    exact Value.ref.inj (Option.some.inj (x5.symm.trans y5))
  obtain ⟨c1, x1, -, -, x4, x5, x6, -⟩ := b1
  obtain ⟨c2, y1, -, -, y4, y5, y6, -⟩ := b2
  rw [ev] at x1
  cases x1.symm.trans y1
  have n1 := hs_len1 hi
  have n2 := hs_len1 hj
  have hl : (hs_L.getD i []).length = (hs_L.getD j []).length := (nI_eq (by omega) (by omega)).mp (x5.symm.trans y5)
  exact hc_lext hl (fun k q1 => Value.int.inj (Option.some.inj ((x6 k q1).symm.trans (y6 k (by omega)))))
section HJS
variable {E : hc_E} {cc : ByteArray} {nL d pc : Nat} {own : String} {ret : Option FieldType} {oc : hc_Oc} {σe : hc_St} {Y : hc_Y} {X : hc_X} {lv lv' : List (Nat × Value)} {st : List Value} {σ : hc_St} {am : Nat → Nat → Nat} {tm : hc_T} {idx : Nat}
theorem hr_callVs (hC : hc_C hc_V0 E cc nL own ret d oc σe Y X) {idx : Nat} {y : MethodName} {bytes : ByteArray} {maxL : Nat} {r : Option FieldType} {v : Option Value} {σ1 : hc_St} (i : Nat) (hi : i < hs_L.length) (As rest : List Value) (hd : decode cc pc = .ok (.invokevirtual idx, 3)) (hlk : Cond.methodLink own idx y ∈ lw_all) (hins : Cond.instanceMethod y ∈ lw_all) (hsel : Cond.selects "java/lang/String" y y ∈ lw_all) (hini : Cond.initialized "java/lang/String" ∈ lw_all) (hcode : Cond.code y bytes maxL r ∈ lw_all) (hyC : y.cls = "java/lang/String") (hlen : (parseMethodDescriptor y.desc).map (fun sig => sig.parameters.length) = some As.length) (hw : (rest.map fun v => v.category).sum + (maxL + 11) ≤ 46) (hd1 : 1 ≤ d)
    (hM : hc_M Y.1 hc_V0 y (ws_ y bytes maxL r) (d - 1) E Y.2.1 (.ref (E.2.2.2.1 i) :: As) am [] σ (.inl v) σ1) (hst : st = As.reverse ++ .ref (E.2.2.2.1 i) :: rest)
    (k : hc_At hc_V0 E nL X (pc + 3) lv (v.toList ++ rest) σ1 am []) : hc_At hc_V0 E nL X pc lv st σ am [] := by
  intro ls H locs k9 n9 hl hR h1 h2 T9 hT S9
  subst hst
  obtain ⟨cell, c1, c2, c3, c4⟩ := (hC.2.2.2.2.2.2.2.2.1.1.1 i hi).1.kept hR.2.2.1.2.1
  have hws := hc_words hC.2.2.2.2.1 hcode
  have hfr := hC.2.2.2.2.2.2.2.2.2.2.2.1
  have hlo := hC.2.2.2.2.2.2.2.2.2.2.2.2.1
  have hM1 := hM
  unfold hc_M at hM1
  have hM1 := hM1 hC.2.2.2.2.2.2.2.2.2.2.2.2.2.2.2.2.2.2.2
  rw [← hC.2.2.2.2.2.2.2.2.2.2.2.2.2.2.2.1] at hM1
  obtain ⟨oo, t, B, L, kk, nn, vm1, g1, mk, S1, e1, e2, hq, hK, hL, hr, -⟩ := hc_runV (Wd := (rest.map fun v => v.category).sum) S9 hC.1 hC.2.2.2.1 (hC.2.2.2.2.1 _ hlk) (hC.2.2.2.2.1 _ hins) (hC.2.2.2.2.1 _ hsel) (hC.2.2.2.2.1 _ hcode) (by rw [hyC]; exact np_J5) hM1 (by show d - 1 + 1 ≤ _; omega) (by show _ + _ + 46 * (d - 1) ≤ _; omega) hws List.mem_cons_self (by rw [hyC]; exact hC.2.2.2.2.1 _ hini) (b := E.2.2.2.1 i) (cellB := cell) (by rw [hT]; exact c1) c2 c3 (g := F0 X.2.2.2.2.2.1 pc ls (As.reverse ++ .ref (E.2.2.2.1 i) :: rest)) rfl (by rw [hC.2.2.1]; exact hl.1) (argsL := As) (rest := rest) (fun sig hs => by rw [hs] at hlen; exact (Option.some.inj hlen).symm) rfl (by simp [JFrame.monitorRoom]) (by rw [hC.2.1]; exact hd) (by show k9 + σ.2.2.2.1 ≤ _; omega) (by show n9 + σ.2.2.2.2 ≤ _; omega) (fun vm1 g1 mk hW => ⟨rfl, hc_pre hC hR (U := (T9.setVm vm1).calling g1 mk _) (by exact hT) hW⟩)
  obtain ⟨am1, a1, a2, a3⟩ := hc_behind (rb' := []) (ls := ls) (k9 := k9) (n9 := n9) hC hR hT (fun i h => by cases h) (U := (T9.setVm vm1).calling g1 mk (Value.ref (E.2.2.2.1 i) :: As).toArray) (by exact hT) hq e1 hL
  have ea : am1 = am := funext fun i => funext fun j => a3 i j (by simp)
  subst ea
  obtain ⟨t1, b1, b2⟩ := k ls B.heap (locs ++ L) (k9 + kk) (n9 + nn) hl a2 (by have := hK.1; omega) (by have := hK.2; omega) B rfl S1
  exact ⟨t1, hr v a1 t1 b1, b2⟩
theorem hr_sgv (hC : hc_C hc_V0 E cc nL own ret d oc σe Y X) {i : Nat} (hi : i < hs_L.length) (hd : decode cc pc = .ok (.getfield idx, 3)) (hlk : Cond.fieldLink own idx "java/lang/String" "value" "[B" ∈ lw_all) (k : hc_At hc_V0 E nL X (pc + 3) lv (.ref (E.2.2.2.2 i) :: st) σ am tm) : hc_At hc_V0 E nL X pc lv (.ref (E.2.2.2.1 i) :: st) σ am tm :=
  fun ls H locs k9 n9 hl hR h1 h2 => vk_getf hC.1 hC.2.1 (hC.2.2.2.2.2.2.2.2.1.1.1 i hi).2.2.1 hR.2.2.1 hC.2.2.2.1 (hC.2.2.2.2.1 _ hlk) (fun _ h => h) hd (k ls H locs k9 n9 hl hR h1 h2)
theorem hr_sgc (hC : hc_C hc_V0 E cc nL own ret d oc σe Y X) {i : Nat} (hi : i < hs_L.length) (hd : decode cc pc = .ok (.getfield idx, 3)) (hlk : Cond.fieldLink own idx "java/lang/String" "coder" "B" ∈ lw_all) (k : hc_At hc_V0 E nL X (pc + 3) lv (.int 0 :: st) σ am tm) : hc_At hc_V0 E nL X pc lv (.ref (E.2.2.2.1 i) :: st) σ am tm :=
  fun ls H locs k9 n9 hl hR h1 h2 => vk_getf hC.1 hC.2.1 (hC.2.2.2.2.2.2.2.2.1.1.1 i hi).2.1 hR.2.2.1 hC.2.2.2.1 (hC.2.2.2.2.1 _ hlk) (fun _ h => h) hd (k ls H locs k9 n9 hl hR h1 h2)
theorem hr_gcs (hC : hc_C hc_V0 E cc nL own ret d oc σe Y X) (hd : decode cc pc = .ok (.getstatic idx, 3)) (hlk : Cond.fieldLink own idx "java/lang/String" "COMPACT_STRINGS" "Z" ∈ lw_all) (k : hc_At hc_V0 E nL X (pc + 3) lv (.int 1 :: st) σ am tm) : hc_At hc_V0 E nL X pc lv st σ am tm :=
  fun ls H locs k9 n9 hl hR h1 h2 => va_gets hC.1 hC.2.1 hC.2.2.2.2.2.2.2.2.1.2.2.1 hR.2.2.1 hC.2.2.2.1 (hC.2.2.2.2.1 _ hlk) (fun _ h => h) hd (k ls H locs k9 n9 hl hR h1 h2)
theorem hr_gsf (hC : hc_C hc_V0 E cc nL own ret d oc σe Y X) (hd : decode cc pc = .ok (.getstatic idx, 3)) (hlk : Cond.fieldLink own idx "jdk/internal/util/Preconditions" "SIOOBE_FORMATTER" "Ljava/util/function/BiFunction;" ∈ lw_all) (k : ∀ t : Nat, hc_At hc_V0 E nL X (pc + 3) lv (.ref t :: st) σ am tm) (k0 : hc_At hc_V0 E nL X (pc + 3) lv (.null :: st) σ am tm) : hc_At hc_V0 E nL X pc lv st σ am tm := by
  rcases hC.2.2.2.2.2.2.2.2.1.2.2.2.1 with ht | ⟨t, ht⟩
  · exact fun ls H locs k9 n9 hl hR h1 h2 => va_gets hC.1 hC.2.1 ht hR.2.2.1 hC.2.2.2.1 (hC.2.2.2.2.1 _ hlk) (fun _ h => h) hd (k0 ls H locs k9 n9 hl hR h1 h2)
  · exact fun ls H locs k9 n9 hl hR h1 h2 => va_gets hC.1 hC.2.1 ht hR.2.2.1 hC.2.2.2.1 (hC.2.2.2.2.1 _ hlk) (fun _ h => h) hd (k t ls H locs k9 n9 hl hR h1 h2)
theorem hr_stl (hC : hc_C hc_V0 E cc nL own ret d oc σe Y X) {i : Nat} (hi : i < hs_L.length) (hd : decode cc pc = .ok (.arraylength, 1)) (k : hc_At hc_V0 E nL X (pc + 1) lv (.int (nI (hs_L.getD i []).length) :: st) σ am tm) : hc_At hc_V0 E nL X pc lv (.ref (E.2.2.2.2 i) :: st) σ am tm :=
  fun ls H locs k9 n9 hl hR h1 h2 => va_tlen hC.1 hC.2.1 (hC.2.2.2.2.2.2.2.2.1.1.1 i hi).2.2.2 hR.2.2.1 rfl hd (k ls H locs k9 n9 hl hR h1 h2)
theorem hr_stb (hC : hc_C hc_V0 E cc nL own ret d oc σe Y X) {i : Nat} {j : Int32} (hi : i < hs_L.length) (hj : inb j (hs_L.getD i []).length = true) (hd : decode cc pc = .ok (.baload, 1)) (k : hc_At hc_V0 E nL X (pc + 1) lv (.int ((hs_L.getD i []).getD j.toNatClampNeg 0) :: st) σ am tm) : hc_At hc_V0 E nL X pc lv (.int j :: .ref (E.2.2.2.2 i) :: st) σ am tm :=
  fun ls H locs k9 n9 hl hR h1 h2 => va_tb hC.1 hC.2.1 (hC.2.2.2.2.2.2.2.2.1.1.1 i hi).2.2.2 hR.2.2.1 (inb_in hj) rfl hd (k ls H locs k9 n9 hl hR h1 h2)
theorem hr_i2c {x : Int32} (hC : hc_C hc_V0 E cc nL own ret d oc σe Y X) (hd : decode cc pc = .ok (.i2c, 1)) (k : hc_At hc_V0 E nL X (pc + 1) lv (.int (x.toUInt32 % 65536).toInt32 :: st) σ am tm) : hc_At hc_V0 E nL X pc lv (.int x :: st) σ am tm :=
  fun ls H locs k9 n9 hl hR h1 h2 => lv_i2c hC.1 hC.2.1 hd rfl (k ls H locs k9 n9 hl hR h1 h2)
end HJS
theorem okJ5_coder (l : Launch) (E : hc_E) (A : Nat → Prop) (d : Nat) (hD : 1 ≤ d) {i : Nat} (hi : i < hs_L.length) (σ : hc_St) (am : Nat → Nat → Nat) : hc_M l hc_V0 yJ5_coder (ws_ yJ5_coder cJ5_coder 1 (some .byte)) d E A [.ref (E.2.2.2.1 i)] am [] σ (.inl (some (.int 0))) σ := by
  refine hc_enter2 (own := RJ5) [(0, .ref (E.2.2.2.1 i))] pl_J5 rfl hc_V0_st hc_G0_nd rfl (Nat.le_of_ble_eq_true rfl) (fun X hC hem => ?_)
  refine hr_gcs hC dJ5_coder_0 q1121 ?_
  refine hr_if_eq hC 13 dJ5_coder_3 (by decide) (fun c => absurd c (by decide)) (fun c => ?_)
  refine hr_aload_n hC dJ5_coder_6 rfl ?_
  refine hr_sgc hC hi dJ5_coder_7 q3763 ?_
  refine hr_goto hC 14 dJ5_coder_10 (by decide) ?_
  exact hr_zret hC rfl dJ5_coder_14
theorem okJ5_isLatin1 (l : Launch) (E : hc_E) (A : Nat → Prop) (d : Nat) (hD : 1 ≤ d) {i : Nat} (hi : i < hs_L.length) (σ : hc_St) (am : Nat → Nat → Nat) : hc_M l hc_V0 yJ5_isLatin1 (ws_ yJ5_isLatin1 cJ5_isLatin1 1 (some .boolean)) d E A [.ref (E.2.2.2.1 i)] am [] σ (.inl (some (.int 1))) σ := by
  refine hc_enter2 (own := RJ5) [(0, .ref (E.2.2.2.1 i))] pl_J5 rfl hc_V0_st hc_G0_nd rfl (Nat.le_of_ble_eq_true rfl) (fun X hC hem => ?_)
  refine hr_gcs hC dJ5_isLatin1_0 q1121 ?_
  refine hr_if_eq hC 17 dJ5_isLatin1_3 (by decide) (fun c => absurd c (by decide)) (fun c => ?_)
  refine hr_aload_n hC dJ5_isLatin1_6 rfl ?_
  refine hr_sgc hC hi dJ5_isLatin1_7 q3763 ?_
  refine hr_if_ne hC 17 dJ5_isLatin1_10 (by decide) (fun c => absurd rfl c) (fun c => ?_)
  refine hr_iconst (v := 1) hC dJ5_isLatin1_13 rfl ?_
  refine hr_goto hC 18 dJ5_isLatin1_14 (by decide) ?_
  exact hr_zret hC rfl dJ5_isLatin1_18
theorem okJ5_length (l : Launch) (E : hc_E) (A : Nat → Prop) (d : Nat) (hD : 2 ≤ d) {i : Nat} (hi : i < hs_L.length) (σ : hc_St) (am : Nat → Nat → Nat) : hc_M l hc_V0 yJ5_length (ws_ yJ5_length cJ5_length 1 (some .int)) d E A [.ref (E.2.2.2.1 i)] am [] σ (.inl (some (.int (nI (hs_L.getD i []).length)))) σ := by
  have hd1 : 1 ≤ d := by omega
  refine hc_enter2 (own := RJ5) [(0, .ref (E.2.2.2.1 i))] pl_J5 rfl hc_V0_st hc_G0_nd rfl (Nat.le_of_ble_eq_true rfl) (fun X hC hem => ?_)
  refine hr_aload_n hC dJ5_length_0 rfl ?_
  refine hr_sgv hC hi dJ5_length_1 q3762 ?_
  refine hr_stl hC hi dJ5_length_4 ?_
  refine hr_aload_n hC dJ5_length_5 rfl ?_
  refine hr_callVs hC i hi [] _ dJ5_length_6 q1117 q1118 q1119 q342 q1120 rfl pd_J5_coder (Nat.le_of_ble_eq_true rfl) hd1 (okJ5_coder l E A (d - 1) (by omega) hi σ am) rfl ?_
  refine hr_ishr hC dJ5_length_9 ?_
  rw [show jshr (nI (hs_L.getD i []).length) 0 = nI (hs_L.getD i []).length from sb_shr0 _]
  exact hr_iret hC dJ5_length_10
theorem okJ7_checkIndex (l : Launch) (E : hc_E) (A : Nat → Prop) (d : Nat) (hD : 1 ≤ d) {i n : Int32} {t : Nat} (h0 : ¬ i < 0) (h1 : i < n) (σ : hc_St) (am : Nat → Nat → Nat) : hc_M l hc_V0 yJ7_checkIndex (ws_ yJ7_checkIndex cJ7_checkIndex 3 (some .int)) d E A [.int i, .int n, .ref t] am [] σ (.inl (some (.int i))) σ := by
  refine hc_enter2 (own := RJ7) [(0, .int i), (1, .int n), (2, .ref t)] pl_J7 rfl hc_V0_st hc_G0_nd rfl (Nat.le_of_ble_eq_true rfl) (fun X hC hem => ?_)
  refine hr_iload_n hC dJ7_checkIndex_0 rfl ?_
  refine hr_if_lt hC 9 dJ7_checkIndex_1 (by decide) (fun c => absurd c h0) (fun c => ?_)
  refine hr_iload_n hC dJ7_checkIndex_4 rfl ?_
  refine hr_iload_n hC dJ7_checkIndex_5 rfl ?_
  refine hr_icmp_lt hC 16 dJ7_checkIndex_6 (by decide) (fun c => ?_) (fun c => absurd h1 c)
  refine hr_iload_n hC dJ7_checkIndex_16 rfl ?_
  exact hr_iret hC dJ7_checkIndex_17
theorem okJ7_checkIndexN (l : Launch) (E : hc_E) (A : Nat → Prop) (d : Nat) (hD : 1 ≤ d) {i n : Int32} (h0 : ¬ i < 0) (h1 : i < n) (σ : hc_St) (am : Nat → Nat → Nat) : hc_M l hc_V0 yJ7_checkIndex (ws_ yJ7_checkIndex cJ7_checkIndex 3 (some .int)) d E A [.int i, .int n, .null] am [] σ (.inl (some (.int i))) σ := by
  refine hc_enter2 (own := RJ7) [(0, .int i), (1, .int n), (2, .null)] pl_J7 rfl hc_V0_st hc_G0_nd rfl (Nat.le_of_ble_eq_true rfl) (fun X hC hem => ?_)
  refine hr_iload_n hC dJ7_checkIndex_0 rfl ?_
  refine hr_if_lt hC 9 dJ7_checkIndex_1 (by decide) (fun c => absurd c h0) (fun c => ?_)
  refine hr_iload_n hC dJ7_checkIndex_4 rfl ?_
  refine hr_iload_n hC dJ7_checkIndex_5 rfl ?_
  refine hr_icmp_lt hC 16 dJ7_checkIndex_6 (by decide) (fun c => ?_) (fun c => absurd h1 c)
  refine hr_iload_n hC dJ7_checkIndex_16 rfl ?_
  exact hr_iret hC dJ7_checkIndex_17
theorem okJ5_checkIndex (l : Launch) (E : hc_E) (A : Nat → Prop) (d : Nat) (hD : 2 ≤ d) {i n : Int32} (h0 : ¬ i < 0) (h1 : i < n) (σ : hc_St) (am : Nat → Nat → Nat) : hc_M l hc_V0 yJ5_checkIndex (ws_ yJ5_checkIndex cJ5_checkIndex 2 none) d E A [.int i, .int n] am [] σ (.inl none) σ := by
  have hd1 : 1 ≤ d := by omega
  refine hc_enter2 (own := RJ5) [(0, .int i), (1, .int n)] pl_J5 rfl hc_V0_st hc_G0_nd rfl (Nat.le_of_ble_eq_true rfl) (fun X hC hem => ?_)
  refine hr_iload_n hC dJ5_checkIndex_0 rfl ?_
  refine hr_iload_n hC dJ5_checkIndex_1 rfl ?_
  refine hr_gsf hC dJ5_checkIndex_2 q1138 (fun t => ?_) ?_
  · refine hs_callS0 hC [_, _, _] _ dJ5_checkIndex_5 q1140 q1141 q344 q1142 np_J7 rfl pd_J7_checkIndex (Nat.le_of_ble_eq_true rfl) hd1 (okJ7_checkIndex l E A (d - 1) (by omega) (t := t) h0 h1 σ am) rfl ?_
    refine hr_pop hC dJ5_checkIndex_8 rfl ?_
    exact hr_vret hC dJ5_checkIndex_9
  · refine hs_callS0 hC [_, _, _] _ dJ5_checkIndex_5 q1140 q1141 q344 q1142 np_J7 rfl pd_J7_checkIndex (Nat.le_of_ble_eq_true rfl) hd1 (okJ7_checkIndexN l E A (d - 1) (by omega) h0 h1 σ am) rfl ?_
    refine hr_pop hC dJ5_checkIndex_8 rfl ?_
    exact hr_vret hC dJ5_checkIndex_9
theorem inb_lt {i : Int32} {n : Nat} (h : inb i n = true) (hn : n < 2 ^ 31) : ¬ i < 0 ∧ i < nI n ∧ i.toNatClampNeg < n := by
  obtain ⟨j, hj, rfl⟩ := vp_in_of (inb_in h) hn
  exact ⟨nI_pos (by omega), nI_lt hj hn, by rw [nI_clamp (by omega)]; exact hj⟩
theorem okJ6_charAt (l : Launch) (E : hc_E) (A : Nat → Prop) (d : Nat) (hD : 3 ≤ d) {i : Nat} (hi : i < hs_L.length) {j : Int32} (hj : inb j (hs_L.getD i []).length = true) (σ : hc_St) (am : Nat → Nat → Nat) : hc_M l hc_V0 yJ6_charAt (ws_ yJ6_charAt cJ6_charAt 2 (some .char)) d E A [.ref (E.2.2.2.2 i), .int j] am [] σ (.inl (some (.int ((hs_L.getD i []).getD j.toNatClampNeg 0)))) σ := by
  have hd1 : 1 ≤ d := by omega
  have hn := hs_len1 hi
  obtain ⟨j0, j1, j2⟩ := inb_lt hj (by omega)
  obtain ⟨a0, a1⟩ := hs_asc1 hi j2
  refine hc_enter2 (own := RJ6) [(0, .ref (E.2.2.2.2 i)), (1, .int j)] pl_J6 rfl hc_V0_st hc_G0_nd rfl (Nat.le_of_ble_eq_true rfl) (fun X hC hem => ?_)
  refine hr_iload_n hC dJ6_charAt_0 rfl ?_
  refine hr_aload_n hC dJ6_charAt_1 rfl ?_
  refine hr_stl hC hi dJ6_charAt_2 ?_
  refine hs_callS0 hC [_, _] _ dJ6_charAt_3 q1135 q1136 q342 q1137 np_J5 rfl pd_J5_checkIndex (Nat.le_of_ble_eq_true rfl) hd1 (okJ5_checkIndex l E A (d - 1) (by omega) j0 j1 σ am) rfl ?_
  refine hr_aload_n hC dJ6_charAt_6 rfl ?_
  refine hr_iload_n hC dJ6_charAt_7 rfl ?_
  refine hr_stb hC hi hj dJ6_charAt_8 ?_
  refine hr_sipush (v := 255) hC dJ6_charAt_9 rfl ?_
  refine hr_iand hC dJ6_charAt_12 ?_
  rw [a0]
  refine hr_i2c hC dJ6_charAt_13 ?_
  rw [a1]
  exact hr_zret hC (by rw [← a1]; exact pk_nc _) dJ6_charAt_14
theorem okJ5_charAt (l : Launch) (E : hc_E) (A : Nat → Prop) (d : Nat) (hD : 4 ≤ d) {i : Nat} (hi : i < hs_L.length) {j : Int32} (hj : inb j (hs_L.getD i []).length = true) (σ : hc_St) (am : Nat → Nat → Nat) : hc_M l hc_V0 yJ5_charAt (ws_ yJ5_charAt cJ5_charAt 2 (some .char)) d E A [.ref (E.2.2.2.1 i), .int j] am [] σ (.inl (some (.int ((hs_L.getD i []).getD j.toNatClampNeg 0)))) σ := by
  have hd1 : 1 ≤ d := by omega
  have hn := hs_len1 hi
  obtain ⟨j0, j1, j2⟩ := inb_lt hj (by omega)
  obtain ⟨a0, a1⟩ := hs_asc1 hi j2
  refine hc_enter2 (own := RJ5) [(0, .ref (E.2.2.2.1 i)), (1, .int j)] pl_J5 rfl hc_V0_st hc_G0_nd rfl (Nat.le_of_ble_eq_true rfl) (fun X hC hem => ?_)
  refine hr_aload_n hC dJ5_charAt_0 rfl ?_
  refine hr_callVs hC i hi [] _ dJ5_charAt_1 q1128 q1129 q1130 q342 q1131 rfl pd_J5_isLatin1 (Nat.le_of_ble_eq_true rfl) hd1 (okJ5_isLatin1 l E A (d - 1) (by omega) hi σ am) rfl ?_
  refine hr_if_eq hC 16 dJ5_charAt_4 (by decide) (fun c => absurd c (by decide)) (fun c => ?_)
  refine hr_aload_n hC dJ5_charAt_7 rfl ?_
  refine hr_sgv hC hi dJ5_charAt_8 q3762 ?_
  refine hr_iload_n hC dJ5_charAt_11 rfl ?_
  refine hs_callS0 hC [_, _] _ dJ5_charAt_12 q1132 q1133 q343 q1134 np_J6 rfl pd_J6_charAt (Nat.le_of_ble_eq_true rfl) hd1 (okJ6_charAt l E A (d - 1) (by omega) hi hj σ am) rfl ?_
  exact hr_zret hC (by rw [← a1]; exact pk_nc _) dJ5_charAt_15
section HJE
variable {E : hc_E} {cc : ByteArray} {nL d pc : Nat} {own : String} {ret : Option FieldType} {oc : hc_Oc} {σe : hc_St} {Y : hc_Y} {X : hc_X} {lv lv' : List (Nat × Value)} {st : List Value} {σ : hc_St} {am : Nat → Nat → Nat} {tm : hc_T} {idx : Nat}
theorem hr_acmp_ne (hC : hc_C hc_V0 E cc nL own ret d oc σe Y X) {a b : Nat} {off : Int} (tgt : Nat) (hd : decode cc pc = .ok (.if_acmp .ne off, 3)) (ht : (pc : Int) + off = (tgt : Int)) (kt : ¬ a = b → hc_At hc_V0 E nL X tgt lv st σ am tm) (kf : a = b → hc_At hc_V0 E nL X (pc + 3) lv st σ am tm) : hc_At hc_V0 E nL X pc lv (.ref b :: .ref a :: st) σ am tm :=
  fun ls H locs k9 n9 hl hR h1 h2 => lv_acmp_ne (rx := some a) (ry := some b) hC.1 hC.2.1 hd ht (fun z => kt (fun e => z (by rw [e])) ls H locs k9 n9 hl hR h1 h2) (fun z => kf (Option.some.inj z) ls H locs k9 n9 hl hR h1 h2)
theorem hr_instS (hC : hc_C hc_V0 E cc nL own ret d oc σe Y X) {i : Nat} (hi : i < hs_L.length) (hd : decode cc pc = .ok (.instanceof idx, 3)) (hlk : Cond.classLink own idx "java/lang/String" ∈ lw_all) (k : hc_At hc_V0 E nL X (pc + 3) lv (.int 1 :: st) σ am tm) : hc_At hc_V0 E nL X pc lv (.ref (E.2.2.2.1 i) :: st) σ am tm := by
  intro ls H locs k9 n9 hl hR h1 h2
  obtain ⟨cell, c1, c2, c3, c4⟩ := (hC.2.2.2.2.2.2.2.2.1.1.1 i hi).1.kept hR.2.2.1.2.1
  exact va_instE hC.1 hC.2.1 hC.2.2.2.1 (hC.2.2.2.2.1 _ hlk) ⟨cell, c1, c2, c3⟩ hd (k ls H locs k9 n9 hl hR h1 h2)
theorem hr_castS (hC : hc_C hc_V0 E cc nL own ret d oc σe Y X) {i : Nat} (hi : i < hs_L.length) (hd : decode cc pc = .ok (.checkcast idx, 3)) (hlk : Cond.classLink own idx "java/lang/String" ∈ lw_all) (k : hc_At hc_V0 E nL X (pc + 3) lv (.ref (E.2.2.2.1 i) :: st) σ am tm) : hc_At hc_V0 E nL X pc lv (.ref (E.2.2.2.1 i) :: st) σ am tm := by
  intro ls H locs k9 n9 hl hR h1 h2
  obtain ⟨cell, c1, c2, c3, c4⟩ := (hC.2.2.2.2.2.2.2.2.1.1.1 i hi).1.kept hR.2.2.1.2.1
  exact va_castE hC.1 hC.2.1 hC.2.2.2.1 (hC.2.2.2.2.1 _ hlk) ⟨cell, c1, c2, c3⟩ hd (k ls H locs k9 n9 hl hR h1 h2)
end HJE
/-- the loop of StringLatin1.equals: from j on -/
theorem llJ6_equals {l : Launch} {E : hc_E} {A : Nat → Prop} {am : Nat → Nat → Nat} {d : Nat} {X : hc_X} {i1 i2 : Nat} (h1 : i1 < hs_L.length) (h2 : i2 < hs_L.length) {σ : hc_St} {v : Int32} (hlen : (hs_L.getD i1 []).length = (hs_L.getD i2 []).length) (hv : v = if hs_L.getD i1 [] = hs_L.getD i2 [] then 1 else 0)
    (hC : hc_C hc_V0 E cJ6_equals 3 RJ6 (some .boolean) d (.inl (some (.int v))) σ (l, A, am, []) X) : ∀ (m j : Nat), j + m = (hs_L.getD i1 []).length → (∀ k, k < j → (hs_L.getD i1 []).getD k 0 = (hs_L.getD i2 []).getD k 0) → hc_At hc_V0 E 3 X 9 [(0, .ref (E.2.2.2.2 i1)), (1, .ref (E.2.2.2.2 i2)), (2, .int (nI j))] [] σ am [] := by
  have hn := hs_len1 h1
  intro m
  induction m with
  | zero =>
    intro j hj hk
    have hj : j = (hs_L.getD i1 []).length := by omega
    have e : hs_L.getD i1 [] = hs_L.getD i2 [] := hc_lext hlen (fun k q1 => hk k (by omega))
    rw [if_pos e] at hv
    subst hv
    refine hr_iload_n hC dJ6_equals_9 rfl ?_
    refine hr_aload_n hC dJ6_equals_10 rfl ?_
    refine hr_stl hC h1 dJ6_equals_11 ?_
    refine hr_icmp_ge hC 32 dJ6_equals_12 (by decide) (fun c => ?_) (fun c => absurd (by rw [hj]; exact Int32.le_refl _) c)
    refine hr_iconst (v := 1) hC dJ6_equals_32 rfl ?_
    exact hr_zret hC rfl dJ6_equals_33
  | succ m ih =>
    intro j hj hk
    have hjl : j < (hs_L.getD i1 []).length := by omega
    have b1 : inb (nI j) (hs_L.getD i1 []).length = true := by
      have := vp_in_nI hjl (by omega)
      simp only [vp_in, not_or] at this
      simp only [inb, Bool.not_eq_true', Bool.or_eq_false_iff, decide_eq_false_iff_not]
      exact this
    have b2 : inb (nI j) (hs_L.getD i2 []).length = true := by rw [← hlen]; exact b1
    have ec : (nI j).toNatClampNeg = j := nI_clamp (by omega)
    refine hr_iload_n hC dJ6_equals_9 rfl ?_
    refine hr_aload_n hC dJ6_equals_10 rfl ?_
    refine hr_stl hC h1 dJ6_equals_11 ?_
    refine hr_icmp_ge hC 32 dJ6_equals_12 (by decide) (fun c => absurd c (nI_ge hjl (by omega))) (fun c => ?_)
    refine hr_aload_n hC dJ6_equals_15 rfl ?_
    refine hr_iload_n hC dJ6_equals_16 rfl ?_
    refine hr_stb hC h1 b1 dJ6_equals_17 ?_
    refine hr_aload_n hC dJ6_equals_18 rfl ?_
    refine hr_iload_n hC dJ6_equals_19 rfl ?_
    refine hr_stb hC h2 b2 dJ6_equals_20 ?_
    rw [ec]
    refine hr_icmp_eq hC 26 dJ6_equals_21 (by decide) (fun c => ?_) (fun c => ?_)
    · refine hr_iinc (v := nI j + 1) hC dJ6_equals_26 rfl rfl (by decide) ?_
      rw [nI_1]
      refine hr_goto hC 9 dJ6_equals_29 (by decide) ?_
      refine hr_sub _ rfl (ih (j + 1) (by omega) (fun k hk2 => ?_))
      by_cases e : k = j
      · rw [e]; exact c
      · exact hk k (by omega)
    · have e : ¬ hs_L.getD i1 [] = hs_L.getD i2 [] := fun e => c (by rw [e])
      rw [if_neg e] at hv
      subst hv
      refine hr_iconst (v := 0) hC dJ6_equals_24 rfl ?_
      exact hr_zret hC rfl dJ6_equals_25
theorem okJ6_equals (l : Launch) (E : hc_E) (A : Nat → Prop) (d : Nat) (hD : 1 ≤ d) {i1 i2 : Nat} (h1 : i1 < hs_L.length) (h2 : i2 < hs_L.length) (σ : hc_St) (am : Nat → Nat → Nat) : hc_M l hc_V0 yJ6_equals (ws_ yJ6_equals cJ6_equals 3 (some .boolean)) d E A [.ref (E.2.2.2.2 i1), .ref (E.2.2.2.2 i2)] am [] σ (.inl (some (.int (if hs_L.getD i1 [] = hs_L.getD i2 [] then 1 else 0)))) σ := by
  have n1 := hs_len1 h1
  have n2 := hs_len1 h2
  refine hc_enter2 (own := RJ6) [(0, .ref (E.2.2.2.2 i1)), (1, .ref (E.2.2.2.2 i2))] pl_J6 rfl hc_V0_st hc_G0_nd rfl (Nat.le_of_ble_eq_true rfl) (fun X hC hem => ?_)
  refine hr_aload_n hC dJ6_equals_0 rfl ?_
  refine hr_stl hC h1 dJ6_equals_1 ?_
  refine hr_aload_n hC dJ6_equals_2 rfl ?_
  refine hr_stl hC h2 dJ6_equals_3 ?_
  refine hr_icmp_ne hC 34 dJ6_equals_4 (by decide) (fun c => ?_) (fun c => ?_)
  · have e : ¬ hs_L.getD i1 [] = hs_L.getD i2 [] := fun e => c (by rw [e])
    rw [if_neg e] at hC
    refine hr_iconst (v := 0) hC dJ6_equals_34 rfl ?_
    exact hr_zret hC rfl dJ6_equals_35
  · refine hr_iconst (v := 0) hC dJ6_equals_7 rfl ?_
    refine hr_istore_n hC dJ6_equals_8 (by decide) ?_
    exact hr_sub _ rfl (llJ6_equals h1 h2 ((nI_eq (by omega) (by omega)).mp c) rfl hC _ 0 (Nat.zero_add _) (fun k hk => absurd hk (Nat.not_lt_zero _)))
theorem okJ5_equals (l : Launch) (E : hc_E) (A : Nat → Prop) (d : Nat) (hD : 2 ≤ d) {i1 i2 : Nat} (h1 : i1 < hs_L.length) (h2 : i2 < hs_L.length) (σ : hc_St) (am : Nat → Nat → Nat) (hinj : E.2.2.2.1 i1 = E.2.2.2.1 i2 → hs_L.getD i1 [] = hs_L.getD i2 []) : hc_M l hc_V0 yJ5_equals (ws_ yJ5_equals cJ5_equals 3 (some .boolean)) d E A [.ref (E.2.2.2.1 i1), .ref (E.2.2.2.1 i2)] am [] σ (.inl (some (.int (if hs_L.getD i1 [] = hs_L.getD i2 [] then 1 else 0)))) σ := by
  have hd1 : 1 ≤ d := by omega
  refine hc_enter2 (own := RJ5) [(0, .ref (E.2.2.2.1 i1)), (1, .ref (E.2.2.2.1 i2))] pl_J5 rfl hc_V0_st hc_G0_nd rfl (Nat.le_of_ble_eq_true rfl) (fun X hC hem => ?_)
  refine hr_aload_n hC dJ5_equals_0 rfl ?_
  refine hr_aload_n hC dJ5_equals_1 rfl ?_
  refine hr_acmp_ne hC 7 dJ5_equals_2 (by decide) (fun c => ?_) (fun c => ?_)
  · refine hr_aload_n hC dJ5_equals_7 rfl ?_
    refine hr_instS hC h2 dJ5_equals_8 q3214 ?_
    refine hr_if_eq hC 54 dJ5_equals_11 (by decide) (fun c => absurd c (by decide)) (fun c => ?_)
    refine hr_aload_n hC dJ5_equals_14 rfl ?_
    refine hr_castS hC h2 dJ5_equals_15 q3214 ?_
    refine hr_astore_n hC dJ5_equals_18 (by decide) ?_
    refine hr_gcs hC dJ5_equals_19 q1121 ?_
    refine hr_if_eq hC 36 dJ5_equals_22 (by decide) (fun c => absurd c (by decide)) (fun c => ?_)
    refine hr_aload_n hC dJ5_equals_25 rfl ?_
    refine hr_sgc hC h1 dJ5_equals_26 q3763 ?_
    refine hr_aload_n hC dJ5_equals_29 rfl ?_
    refine hr_sgc hC h2 dJ5_equals_30 q3763 ?_
    refine hr_icmp_ne hC 54 dJ5_equals_33 (by decide) (fun c => absurd rfl c) (fun c => ?_)
    refine hr_aload_n hC dJ5_equals_36 rfl ?_
    refine hr_sgv hC h1 dJ5_equals_37 q3762 ?_
    refine hr_aload_n hC dJ5_equals_40 rfl ?_
    refine hr_sgv hC h2 dJ5_equals_41 q3762 ?_
    refine hs_callS0 hC [_, _] _ dJ5_equals_44 q3215 q3216 q343 q3217 np_J6 rfl pd_J6_equals (Nat.le_of_ble_eq_true rfl) hd1 (okJ6_equals l E A (d - 1) (by omega) h1 h2 σ am) rfl ?_
    refine hr_if_eq hC 54 dJ5_equals_47 (by decide) (fun c => ?_) (fun c => ?_)
    · have e : ¬ hs_L.getD i1 [] = hs_L.getD i2 [] := fun e => by rw [if_pos e] at c; exact absurd c (by decide)
      rw [if_neg e] at hC
      refine hr_iconst (v := 0) hC dJ5_equals_54 rfl ?_
      exact hr_zret hC rfl dJ5_equals_55
    · have e : hs_L.getD i1 [] = hs_L.getD i2 [] := Classical.byContradiction fun e => c (by rw [if_neg e])
      rw [if_pos e] at hC
      refine hr_iconst (v := 1) hC dJ5_equals_50 rfl ?_
      refine hr_goto hC 55 dJ5_equals_51 (by decide) ?_
      exact hr_zret hC rfl dJ5_equals_55
  · rw [if_pos (hinj c)] at hC
    refine hr_iconst (v := 1) hC dJ5_equals_5 rfl ?_
    exact hr_zret hC rfl dJ5_equals_6
section HJR
variable {E : hc_E} {cc : ByteArray} {nL d pc : Nat} {own : String} {ret : Option FieldType} {oc : hc_Oc} {σe : hc_St} {Y : hc_Y} {X : hc_X} {lv lv' : List (Nat × Value)} {st : List Value} {σ : hc_St} {am : Nat → Nat → Nat} {tm : hc_T} {idx : Nat}
theorem hsi_lt {s : Int32} (h : hsi s = true) : s.toNatClampNeg < hs_L.length := (inb_lt h (by rw [hs_n]; omega)).2.2
theorem hr_slen {s : Int32} (hC : hc_C hc_V0 E cc nL own ret d oc σe Y X) (hs : hsi s = true) (hd : decode cc pc = .ok (.invokevirtual idx, 3)) (hlk : Cond.methodLink own idx yJ5_length ∈ lw_all) (hd8 : 9 ≤ d) (hw : (st.map fun v => v.category).sum ≤ 20) (k : hc_At hc_V0 E nL X (pc + 3) lv (.int (sLen s) :: st) σ am []) : hc_At hc_V0 E nL X pc lv (.ref (E.2.2.2.1 s.toNatClampNeg) :: st) σ am [] :=
  hr_callVs hC s.toNatClampNeg (hsi_lt hs) [] _ hd hlk q1114 q1115 q342 q1116 rfl pd_J5_length (by omega) (by omega) (okJ5_length Y.1 E Y.2.1 (d - 1) (by omega) (hsi_lt hs) σ am) rfl k
theorem hr_schar {s i : Int32} (hC : hc_C hc_V0 E cc nL own ret d oc σe Y X) (hs : hsc s i = true) (hd : decode cc pc = .ok (.invokevirtual idx, 3)) (hlk : Cond.methodLink own idx yJ5_charAt ∈ lw_all) (hd8 : 9 ≤ d) (hw : (st.map fun v => v.category).sum ≤ 20) (k : hc_At hc_V0 E nL X (pc + 3) lv (.int (sCh s i) :: st) σ am []) : hc_At hc_V0 E nL X pc lv (.int i :: .ref (E.2.2.2.1 s.toNatClampNeg) :: st) σ am [] := by
  simp only [hsc, Bool.and_eq_true] at hs
  exact hr_callVs hC s.toNatClampNeg (hsi_lt hs.1) [.int i] _ hd hlk q1125 q1126 q342 q1127 rfl pd_J5_charAt (by omega) (by omega) (okJ5_charAt Y.1 E Y.2.1 (d - 1) (by omega) (hsi_lt hs.1) hs.2 σ am) rfl k
theorem hr_seq {s t : Int32} (hC : hc_C hc_V0 E cc nL own ret d oc σe Y X) (hs : (hsi s && hsi t) = true) (hd : decode cc pc = .ok (.invokevirtual idx, 3)) (hlk : Cond.methodLink own idx yJ5_equals ∈ lw_all) (hd8 : 9 ≤ d) (hw : (st.map fun v => v.category).sum ≤ 20) (k : hc_At hc_V0 E nL X (pc + 3) lv (.int (sEq s t) :: st) σ am []) : hc_At hc_V0 E nL X pc lv (.ref (E.2.2.2.1 t.toNatClampNeg) :: .ref (E.2.2.2.1 s.toNatClampNeg) :: st) σ am [] := by
  simp only [Bool.and_eq_true] at hs
  have i1 := hsi_lt hs.1
  have i2 := hsi_lt hs.2
  have n1 := hs_len1 i1
  have n2 := hs_len1 i2
  refine hr_callVs hC s.toNatClampNeg i1 [.ref (E.2.2.2.1 t.toNatClampNeg)] _ hd hlk q3211 q3212 q342 q3213 rfl pd_J5_equals (by omega) (by omega) (okJ5_equals Y.1 E Y.2.1 (d - 1) (by omega) i1 i2 σ am (fun e => ?_)) rfl k
  exact hc_Zinj hC.2.2.2.2.2.2.2.2.1.1 i1 i2 e
end HJR
