set_option maxRecDepth 100000
/-! ===== the start: what the Statement gives, as the world wants it ===== -/
def hp_p : List Nat := [142, 149, 157, 165, 173, 179, 187, 196, 202, 209, 219, 227, 238, 247, 259, 269, 276, 283, 291, 299, 307, 316, 324, 331, 338, 345, 353, 362, 373, 387, 395, 401, 407, 414, 420, 427, 434, 440, 447, 585, 593, 602, 611, 620, 627, 636, 646, 653, 661, 672, 681, 693, 703, 716, 727, 735, 743, 750, 757, 764, 771, 778, 785, 792, 799, 806, 813, 820, 827, 834, 841, 848, 855, 862, 869, 874, 879, 884, 889, 894, 899, 904, 909, 914, 919, 924, 929, 934, 939, 944, 949, 954, 959, 964, 969, 974, 979, 984, 992, 1000, 1009, 1018, 1027, 1037, 1046, 1054, 1062, 1070, 1079, 1089, 1101, 1116, 1125, 1131, 1138, 1146, 1153, 1161, 1168, 1175, 1183, 1192, 455, 461, 467, 473, 479, 485, 491, 497, 503, 509, 515, 521, 527, 533, 539, 545, 552, 559, 565, 571, 577]
def hp_t (i : Nat) : Term := .string (hs_R.getD i ("", 0, 0, "")).1 (hs_R.getD i ("", 0, 0, "")).2.1
def hp_l (i : Nat) : List Cond := [.exactly (hp_t i) "java/lang/String", .eq (.field (hp_t i) "java/lang/String" "coder" "B") (.int 0), .arrayOf (.field (hp_t i) "java/lang/String" "value" "[B") .byte, .eq (.length (.field (hp_t i) "java/lang/String" "value" "[B")) (.int (Int32.ofNat (hs_L.getD i []).length))] ++ (List.range (hs_L.getD i []).length).map (fun j => .eq (.elem (.field (hp_t i) "java/lang/String" "value" "[B") (.int (Int32.ofNat j))) (.int ((hs_L.getD i []).getD j 0)))
theorem hp_all : (List.range 143).all (fun i => decide (((flatC (Jvm.Cond.and given_1 narrow_1)).drop (hp_p.getD i 0)).take (4 + (hs_L.getD i []).length) = hp_l i)) = true := by decide +kernel
theorem hp_mem {i : Nat} (hi : i < 143) : ∀ c ∈ hp_l i, c ∈ flatC (Jvm.Cond.and given_1 narrow_1) := by
  intro c hc
  have h := of_decide_eq_true (List.all_eq_true.mp hp_all i (List.mem_range.mpr hi))
  rw [← h] at hc
  exact List.mem_of_mem_drop (List.mem_of_mem_take hc)
theorem hp_len : hs_L.length = 143 := by decide +kernel
theorem hp_lens : (List.range 143).all (fun i => decide ((hs_L.getD i []).length < 2147483648)) = true := by decide +kernel
/-- the Strings -/
theorem hp_S {args : Array Value} {s : State} {A : Nat → Prop} (hg : ∀ c ∈ flatC (Jvm.Cond.and given_1 narrow_1), c.before args s = true) (hA : ∀ a : Nat, a < s.heap.size → ¬ A a) :
    ∃ ad : Nat → Nat × Nat, ∀ i : Nat, i < 143 → (hp_t i).eval args s none [] s = some (.ref (ad i).1) ∧ va_O "java/lang/String" (ad i).1 A s s.heap ∧ va_OF "java/lang/String" "coder" "B" (.int 0) (ad i).1 A s s.heap ∧ va_OF "java/lang/String" "value" "[B" (.ref (ad i).2) (ad i).1 A s s.heap ∧ va_T .byte (ad i).2 (hs_L.getD i []).length (fun j => .int ((hs_L.getD i []).getD j 0)) A s s.heap := by
  have h0 : ∀ i : Nat, ∃ q : Nat × Nat, i < 143 → (hp_t i).eval args s none [] s = some (.ref q.1) ∧ va_O "java/lang/String" q.1 A s s.heap ∧ va_OF "java/lang/String" "coder" "B" (.int 0) q.1 A s s.heap ∧ va_OF "java/lang/String" "value" "[B" (.ref q.2) q.1 A s s.heap ∧ va_T .byte q.2 (hs_L.getD i []).length (fun j => .int ((hs_L.getD i []).getD j 0)) A s s.heap := by
    intro i
    by_cases hi : i < 143
    · have hm := fun c hc => hg c (hp_mem hi c hc)
      have h1 := hm _ (show _ ∈ hp_l i from List.mem_append_left _ (List.mem_of_getElem? (i := 0) rfl))
      have h2 := hm _ (show _ ∈ hp_l i from List.mem_append_left _ (List.mem_of_getElem? (i := 1) rfl))
      have h3 := hm _ (show _ ∈ hp_l i from List.mem_append_left _ (List.mem_of_getElem? (i := 2) rfl))
      have h4 := hm _ (show _ ∈ hp_l i from List.mem_append_left _ (List.mem_of_getElem? (i := 3) rfl))
      have h5 : ∀ j : Nat, j < (hs_L.getD i []).length → (Cond.eq (.elem (.field (hp_t i) "java/lang/String" "value" "[B") (.int (Int32.ofNat j))) (.int ((hs_L.getD i []).getD j 0))).before args s = true := fun j hj => hm _ (List.mem_append_right _ (List.mem_map.mpr ⟨j, List.mem_range.mpr hj, rfl⟩))
      obtain ⟨a, c, cA, kA, q1, q2, q3, q4, q5, q6, -⟩ := Cond.exactly_spec (args := args) (first := s) (o := none) (s := s) (idx := []) (t := hp_t i) (cls := "java/lang/String") h1
      obtain ⟨t, ht, hT⟩ := va_Tof (f := fun j => .int ((hs_L.getD i []).getD j 0)) (A := A) (of_decide_eq_true (List.all_eq_true.mp hp_lens i (List.mem_range.mpr hi))) h3 (va_eqt h4) (fun j hj => va_eqt (h5 j hj)) hA
      exact ⟨(a, t), fun _ => ⟨q1, ⟨cA, q3, q5, by rw [q6]; exact q2, hA a (Array.getElem?_eq_some_iff.mp q3).1⟩, vk_OFof q1 (va_eqt h2) hA, vk_OFof q1 ht hA, hT⟩⟩
    · exact ⟨(0, 0), fun h => absurd h hi⟩
  exact Classical.axiomOfChoice h0
theorem hp_LS {args : Array Value} {s : State} {A : Nat → Prop} {O f d : String} (hl : (Cond.laysStatic O f d).before args s = true) (h : (Cond.isRef (.static O f d)).before args s = true) (hA : ∀ a : Nat, a < s.heap.size → ¬ A a) : hc_LS O f d A s s.heap := by
  obtain ⟨c, k, i, fd, a, cell, hc, hi, hst, ha, hcell, hs, hcls, hlt, hty⟩ := Cond.laysStatic_spec hl
  cases hv : (Term.static O f d).eval args s none [] s with
  | none => simp [Cond.before, Cond.holds, Cond.value, hv] at h
  | some w =>
    obtain ⟨hst', a', cell', ha', hcell', -, hslot⟩ := Term.static_spec hi hv
    cases ha.symm.trans ha'
    cases hcell.symm.trans hcell'
    refine ⟨c, k, i, fd, a, cell, w, hc, hi, hst, ha, hty, hcell, hs, hcls, hlt, hslot, hA a (Array.getElem?_eq_some_iff.mp hcell).1, ?_⟩
    simp only [Cond.before, Cond.holds, Cond.value, hv] at h
    cases w with
    | null => exact Or.inl rfl
    | ref t => exact Or.inr ⟨t, rfl⟩
    | _ => simp at h
theorem hp_nc {args : Array Value} {s : State} {a b : String} (h : (Cond.not (.castable a b)).before args s = true) {c1 c2 : ClassId} (h1 : s.vm.findClass a = some c1) (h2 : s.vm.findClass b = some c2) : s.vm.assignable c1 c2 = false := by
  simp only [Cond.before, Cond.holds, Cond.value, h1, h2] at h
  simpa using h
theorem hp_cons {α : Type} {p : α → Prop} {a : α} {l : List α} (h : p a) (k : ∀ x ∈ l, p x) : ∀ x ∈ a :: l, p x := fun x hx => by
  rcases List.mem_cons.mp hx with z | z
  · rw [z]; exact h
  · exact k x z
theorem hp_nil {α : Type} {p : α → Prop} : ∀ x ∈ ([] : List α), p x := fun x hx => by cases hx
theorem hp_arr {args : Array Value} {s : State} {ty : FieldType} (h : (Cond.arrayClass ty).before args s = true) (ht : ∀ C, ty ≠ .object C) (ht2 : ∀ t, ty ≠ .array t) : ∃ cA, ArrOfT s cA ty ∧ va_RA s cA ty ∧ s.vm.findClass ("[" ++ ty.toString) = some cA := by
  obtain ⟨c, k, comp, h1, h2, h3⟩ := Cond.arrayClass_spec h
  refine ⟨c, fun n z => ⟨fun q hq => (by cases hq), k, h2, comp, h3⟩, ?_, h1⟩
  cases ty with
  | object C => exact absurd rfl (ht C)
  | array t => exact absurd rfl (ht2 t)
  | _ => exact h1
theorem hp_R : ∀ q ∈ hs_R, (Cond.stringRef q.1 q.2.1 q.2.2.2) ∈ lw_tbl := (hp_cons q367 (hp_cons q368 (hp_cons q369 (hp_cons q370 (hp_cons q371 (hp_cons q372 (hp_cons q373 (hp_cons q374 (hp_cons q375 (hp_cons q376 (hp_cons q377 (hp_cons q378 (hp_cons q379 (hp_cons q380 (hp_cons q381 (hp_cons q382 (hp_cons q383 (hp_cons q384 (hp_cons q385 (hp_cons q386 (hp_cons q387 (hp_cons q388 (hp_cons q389 (hp_cons q390 (hp_cons q391 (hp_cons q392 (hp_cons q393 (hp_cons q394 (hp_cons q395 (hp_cons q396 (hp_cons q397 (hp_cons q398 (hp_cons q399 (hp_cons q400 (hp_cons q401 (hp_cons q402 (hp_cons q403 (hp_cons q404 (hp_cons q405 (hp_cons q2757 (hp_cons q2758 (hp_cons q2759 (hp_cons q2760 (hp_cons q2761 (hp_cons q2762 (hp_cons q2763 (hp_cons q2764 (hp_cons q2765 (hp_cons q2766 (hp_cons q2767 (hp_cons q2768 (hp_cons q2769 (hp_cons q2770 (hp_cons q2771 (hp_cons q2772 (hp_cons q2773 (hp_cons q2774 (hp_cons q2775 (hp_cons q2776 (hp_cons q2777 (hp_cons q2778 (hp_cons q2779 (hp_cons q2780 (hp_cons q2781 (hp_cons q2782 (hp_cons q2783 (hp_cons q2784 (hp_cons q2785 (hp_cons q2786 (hp_cons q2787 (hp_cons q2788 (hp_cons q2789 (hp_cons q2790 (hp_cons q2791 (hp_cons q2792 (hp_cons q2793 (hp_cons q2794 (hp_cons q2795 (hp_cons q2796 (hp_cons q2797 (hp_cons q2798 (hp_cons q2799 (hp_cons q2800 (hp_cons q2801 (hp_cons q2802 (hp_cons q2803 (hp_cons q2804 (hp_cons q2805 (hp_cons q2806 (hp_cons q2807 (hp_cons q2808 (hp_cons q2809 (hp_cons q2810 (hp_cons q2811 (hp_cons q2812 (hp_cons q2813 (hp_cons q2814 (hp_cons q2815 (hp_cons q2816 (hp_cons q2817 (hp_cons q2818 (hp_cons q2819 (hp_cons q2820 (hp_cons q2821 (hp_cons q2822 (hp_cons q2823 (hp_cons q2824 (hp_cons q2825 (hp_cons q2826 (hp_cons q2827 (hp_cons q2828 (hp_cons q2829 (hp_cons q2830 (hp_cons q2831 (hp_cons q2832 (hp_cons q2833 (hp_cons q2834 (hp_cons q2835 (hp_cons q2836 (hp_cons q2837 (hp_cons q2838 (hp_cons q3542 (hp_cons q465 (hp_cons q466 (hp_cons q467 (hp_cons q468 (hp_cons q469 (hp_cons q470 (hp_cons q471 (hp_cons q472 (hp_cons q473 (hp_cons q474 (hp_cons q475 (hp_cons q476 (hp_cons q477 (hp_cons q478 (hp_cons q479 (hp_cons q480 (hp_cons q481 (hp_cons q482 (hp_cons q483 (hp_cons q484 (hp_cons q1835 hp_nil)))))))))))))))))))))))))))))))))))))))))))))))))))))))))))))))))))))))))))))))))))))))))))))))))))))))))))))))))))))))))))))))))))))))))))))))
theorem hp_Ri : ∀ q ∈ hs_R, q.2.2.1 < 143 ∧ hp_t q.2.2.1 = .string q.1 q.2.1 := by decide +kernel
theorem hp_nf : ∀ q ∈ hc_nf, (Cond.fieldLinkNest q.1 q.2.1 q.2.2.1 q.2.2.2.1 q.2.2.2.2 "HomeCompiler") ∈ lw_tbl := (hp_cons q925 (hp_cons q947 (hp_cons q950 (hp_cons q952 (hp_cons q954 (hp_cons q956 (hp_cons q958 (hp_cons q960 (hp_cons q962 (hp_cons q924 (hp_cons q926 (hp_cons q929 hp_nil))))))))))))
theorem hp_nm : ∀ q ∈ hn_nm, (Cond.methodLinkNest q.1 q.2.1 q.2.2 "HomeCompiler") ∈ lw_tbl := (hp_cons q361 (hp_cons q419 (hp_cons q457 (hp_cons q521 (hp_cons q712 (hp_cons q855 (hp_cons q457 (hp_cons q425 (hp_cons q592 (hp_cons q605 (hp_cons q636 (hp_cons q660 hp_nil))))))))))))
theorem hp_dw : ∀ w ∈ hc_dw, (Cond.declares w) ∈ lw_tbl := (hp_cons q1277 (hp_cons q1278 (hp_cons q1275 (hp_cons q1276 (hp_cons q2702 (hp_cons q2703 (hp_cons q1273 (hp_cons q1274 hp_nil))))))))
theorem hp_xn (k : Nat) : k = 1 ∨ k = 2 ∨ k = 3 ∨ hc_xn k = "java/lang/ArithmeticException" := by
  by_cases h1 : k = 1
  · exact Or.inl h1
  · by_cases h2 : k = 2
    · exact Or.inr (Or.inl h2)
    · by_cases h3 : k = 3
      · exact Or.inr (Or.inr (Or.inl h3))
      · refine Or.inr (Or.inr (Or.inr ?_))
        match k, h1, h2, h3 with
        | 0, _, _, _ => rfl
        | k + 4, _, _, _ => rfl
def hp_x4 : List String := ["java/lang/IllegalArgumentException", "java/lang/IllegalStateException", "java/lang/IndexOutOfBoundsException", "java/lang/ArithmeticException"]
theorem hp_x4_mem (k : Nat) : hc_xn k ∈ hp_x4 := by
  rcases hp_xn k with rfl | rfl | rfl | h
  · exact List.mem_of_getElem? (i := 0) rfl
  · exact List.mem_of_getElem? (i := 1) rfl
  · exact List.mem_of_getElem? (i := 2) rfl
  · rw [h]; exact List.mem_of_getElem? (i := 3) rfl
theorem hp_nots : hp_x4.all (fun a => hp_x4.all (fun b => a == b || (flatC (Jvm.Cond.and given_1 narrow_1)).contains (Cond.not (.castable a b)))) = true := by decide +kernel
theorem hp_casts : ∀ a ∈ hp_x4, (Cond.castable a a) ∈ lw_tbl := (hp_cons q1272 (hp_cons q2383 (hp_cons q2715 (hp_cons q2443 hp_nil))))
theorem hp_K {args : Array Value} {s : State} (hts : ∀ w ∈ lw_tbl, w.before args s = true) : ∃ D : va_G, ∀ (c : Nat) (q : vw_C), hc_cl[c]? = some q → u_Kn s q.1 q.2.1 q.2.2 (D.1 c) (D.2 c) := by
  have h : ∀ c : Nat, ∃ p : ClassId × (Nat → Nat), ∀ q : vw_C, hc_cl[c]? = some q → u_Kn s q.1 q.2.1 q.2.2 p.1 p.2 := by
    intro c
    match c with
    | 0 =>
      obtain ⟨a, b, h⟩ := u_known (C := RX1) (T := TX1) (N := 18) (n := 18) hts (fun w h => lw_all_tbl (in_X1 w h)) (hts _ (lw_all_tbl q352))
      exact ⟨(a, b), fun q hq => by cases hq; exact h⟩
    | 1 =>
      obtain ⟨a, b, h⟩ := u_known (C := RX2) (T := TX2) (N := 3) (n := 3) hts (fun w h => lw_all_tbl (in_X2 w h)) (hts _ (lw_all_tbl q360))
      exact ⟨(a, b), fun q hq => by cases hq; exact h⟩
    | 2 =>
      obtain ⟨a, b, h⟩ := u_known (C := RX3) (T := TX3) (N := 6) (n := 6) hts (fun w h => lw_all_tbl (in_X3 w h)) (hts _ (lw_all_tbl q418))
      exact ⟨(a, b), fun q hq => by cases hq; exact h⟩
    | 3 =>
      obtain ⟨a, b, h⟩ := u_known (C := RX4) (T := TX4) (N := 2) (n := 2) hts (fun w h => lw_all_tbl (in_X4 w h)) (hts _ (lw_all_tbl q424))
      exact ⟨(a, b), fun q hq => by cases hq; exact h⟩
    | 4 =>
      obtain ⟨a, b, h⟩ := u_known (C := RX5) (T := TX5) (N := 11) (n := 11) hts (fun w h => lw_all_tbl (in_X5 w h)) (hts _ (lw_all_tbl q459))
      exact ⟨(a, b), fun q hq => by cases hq; exact h⟩
    | 5 =>
      obtain ⟨a, b, h⟩ := u_known (C := RX6) (T := TX6) (N := 11) (n := 11) hts (fun w h => lw_all_tbl (in_X6 w h)) (hts _ (lw_all_tbl q520))
      exact ⟨(a, b), fun q hq => by cases hq; exact h⟩
    | 6 =>
      obtain ⟨a, b, h⟩ := u_known (C := RX7) (T := TX7) (N := 6) (n := 6) hts (fun w h => lw_all_tbl (in_X7 w h)) (hts _ (lw_all_tbl q560))
      exact ⟨(a, b), fun q hq => by cases hq; exact h⟩
    | 7 =>
      obtain ⟨a, b, h⟩ := u_known (C := RX8) (T := TX8) (N := 16) (n := 16) hts (fun w h => lw_all_tbl (in_X8 w h)) (hts _ (lw_all_tbl q585))
      exact ⟨(a, b), fun q hq => by cases hq; exact h⟩
    | 8 =>
      obtain ⟨a, b, h⟩ := u_known (C := RX9) (T := TX9) (N := 2) (n := 2) hts (fun w h => lw_all_tbl (in_X9 w h)) (hts _ (lw_all_tbl q591))
      exact ⟨(a, b), fun q hq => by cases hq; exact h⟩
    | 9 =>
      obtain ⟨a, b, h⟩ := u_known (C := RX10) (T := TX10) (N := 8) (n := 8) hts (fun w h => lw_all_tbl (in_X10 w h)) (hts _ (lw_all_tbl q604))
      exact ⟨(a, b), fun q hq => by cases hq; exact h⟩
    | 10 =>
      obtain ⟨a, b, h⟩ := u_known (C := RX11) (T := TX11) (N := 6) (n := 6) hts (fun w h => lw_all_tbl (in_X11 w h)) (hts _ (lw_all_tbl q635))
      exact ⟨(a, b), fun q hq => by cases hq; exact h⟩
    | 11 =>
      obtain ⟨a, b, h⟩ := u_known (C := RX12) (T := TX12) (N := 7) (n := 7) hts (fun w h => lw_all_tbl (in_X12 w h)) (hts _ (lw_all_tbl q711))
      exact ⟨(a, b), fun q hq => by cases hq; exact h⟩
    | 12 =>
      obtain ⟨a, b, h⟩ := u_known (C := RX13) (T := TX13) (N := 19) (n := 19) hts (fun w h => lw_all_tbl (in_X13 w h)) (hts _ (lw_all_tbl q739))
      exact ⟨(a, b), fun q hq => by cases hq; exact h⟩
    | 13 =>
      obtain ⟨a, b, h⟩ := u_known (C := RX14) (T := TX14) (N := 2) (n := 2) hts (fun w h => lw_all_tbl (in_X14 w h)) (hts _ (lw_all_tbl q749))
      exact ⟨(a, b), fun q hq => by cases hq; exact h⟩
    | 14 =>
      obtain ⟨a, b, h⟩ := u_known (C := RX15) (T := TX15) (N := 9) (n := 9) hts (fun w h => lw_all_tbl (in_X15 w h)) (hts _ (lw_all_tbl q762))
      exact ⟨(a, b), fun q hq => by cases hq; exact h⟩
    | 15 =>
      obtain ⟨a, b, h⟩ := u_known (C := RX16) (T := TX16) (N := 9) (n := 9) hts (fun w h => lw_all_tbl (in_X16 w h)) (hts _ (lw_all_tbl q854))
      exact ⟨(a, b), fun q hq => by cases hq; exact h⟩
    | 16 =>
      obtain ⟨a, b, h⟩ := u_known (C := RX17) (T := TX17) (N := 5) (n := 5) hts (fun w h => lw_all_tbl (in_X17 w h)) (hts _ (lw_all_tbl q860))
      exact ⟨(a, b), fun q hq => by cases hq; exact h⟩
    | 17 =>
      obtain ⟨a, b, h⟩ := u_known (C := RX18) (T := TX18) (N := 1) (n := 1) hts (fun w h => lw_all_tbl (in_X18 w h)) (hts _ (lw_all_tbl q883))
      exact ⟨(a, b), fun q hq => by cases hq; exact h⟩
    | 18 =>
      obtain ⟨a, b, h⟩ := u_known (C := RX19) (T := TX19) (N := 7) (n := 7) hts (fun w h => lw_all_tbl (in_X19 w h)) (hts _ (lw_all_tbl q893))
      exact ⟨(a, b), fun q hq => by cases hq; exact h⟩
    | 19 =>
      obtain ⟨a, b, h⟩ := u_known (C := RX20) (T := TX20) (N := 5) (n := 5) hts (fun w h => lw_all_tbl (in_X20 w h)) (hts _ (lw_all_tbl q899))
      exact ⟨(a, b), fun q hq => by cases hq; exact h⟩
    | 20 =>
      obtain ⟨a, b, h⟩ := u_known (C := RX21) (T := TX21) (N := 87) (n := 87) hts (fun w h => lw_all_tbl (in_X21 w h)) (hts _ (lw_all_tbl q2751))
      exact ⟨(a, b), fun q hq => by cases hq; exact h⟩
    | c + 21 => exact ⟨(0, fun _ => 0), fun q hq => by cases hq⟩
  obtain ⟨f, hf⟩ := Classical.axiomOfChoice h
  exact ⟨(fun c => (f c).1, fun c => (f c).2), fun c q hq => hf c q hq⟩
/-- what holds at the law's entry -/
theorem hp_start {args : Array Value} {s : State} (hts : ∀ w ∈ lw_tbl, w.before args s = true) (hg : (Jvm.Cond.and given_1 narrow_1).before args s = true) : ∃ E : hc_E, va_K E.1 hc_cl (hc_tys E) s ∧ hc_J0 E (fun q => s.heap.size ≤ q) s s.heap ∧ hn_K s := by
  have hf := flat_of_before _ hg
  have hA : ∀ a : Nat, a < s.heap.size → ¬ (fun q => s.heap.size ≤ q) a := fun a h1 h2 => by omega
  obtain ⟨D, hD⟩ := hp_K hts
  obtain ⟨ad, had⟩ := hp_S hf hA
  obtain ⟨c1, i1, i2, -⟩ := hp_arr (hts _ (lw_all_tbl q455)) (ty := .int) (fun _ h => by cases h) (fun _ h => by cases h)
  obtain ⟨c2, b1, b2, -⟩ := hp_arr (hts _ (lw_all_tbl q416)) (ty := .byte) (fun _ h => by cases h) (fun _ h => by cases h)
  obtain ⟨c3, z1, z2, -⟩ := hp_arr (hts _ (lw_all_tbl q881)) (ty := .boolean) (fun _ h => by cases h) (fun _ h => by cases h)
  obtain ⟨c7, l1, l2, -⟩ := hp_arr (hts _ (lw_all_tbl q3759)) (ty := .long) (fun _ h => by cases h) (fun _ h => by cases h)
  have hAO : va_AO "java/lang/String" s := va_AO.of (hts _ q366)
  obtain ⟨comp, c4, k4, o1, o2, o3, o4, o5⟩ := Cond.arrayOver_spec (va_AO.use (A := args) hAO)
  refine ⟨(D, fun _ => 0, fun k => if k = 1 then c1 else if k = 2 then c2 else if k = 3 then c3 else if k = 4 then c4 else c7, fun i => (ad i).1, fun i => (ad i).2), ⟨hD, ?_⟩, ⟨⟨?_, ?_⟩, ?_, ?_, ?_, ?_, ?_, ?_, ?_, ?_⟩, hAO, ?_⟩
  · intro k q hq
    match k with
    | 0 => cases hq; exact ⟨i1, i2⟩
    | 1 => cases hq; exact ⟨b1, b2⟩
    | 2 => cases hq; exact ⟨z1, z2⟩
    | 3 => cases hq; exact ⟨fun n z => ⟨fun q hq => (by cases hq), k4, o3, comp, o4⟩, k4, comp, o3, o4, o1, o5⟩
    | 4 => cases hq; exact ⟨l1, l2⟩
    | k + 5 => cases hq
  · intro i hi
    rw [hp_len] at hi
    exact (had i hi).2
  · intro q hq
    have h1 := hp_Ri q hq
    have h2 := (had q.2.2.1 h1.1).1
    rw [h1.2] at h2
    exact vk_R.of (hts _ (hp_R q hq)) h2
  · exact fun q hq => va_Nw.of rfl (hts _ (hp_nf q hq))
  · exact va_Zof (hts _ q1122) (hts _ (lw_all_tbl q342)) (va_eqt (hf _ (by decide +kernel))) hA
  · exact va_Zqof (hts _ q1139) (hts _ (lw_all_tbl q344)) (hf _ (by decide +kernel)) hA
  · exact hp_LS (hts _ q1297) (hf _ (by decide +kernel)) hA
  · exact hp_LS (hts _ q1299) (hf _ (by decide +kernel)) hA
  · exact fun k => va_Nw.of rfl (hts _ (hp_casts _ (hp_x4_mem k)))
  · exact fun w hw => va_Nw.of rfl (hts _ (hp_dw w hw))
  · intro j k hjk c1 c2 h1 h2
    have a := List.all_eq_true.mp (List.all_eq_true.mp hp_nots _ (hp_x4_mem j)) _ (hp_x4_mem k)
    simp only [Bool.or_eq_true, beq_iff_eq, List.contains_iff_mem] at a
    rcases a with a | a
    · exact absurd a hjk
    · exact hp_nc (hf _ a) h1 h2
  · exact fun q hq => va_Nw.of rfl (hts _ (hp_nm q hq))
