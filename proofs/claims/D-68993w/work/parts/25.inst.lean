set_option maxRecDepth 100000
/-! ===== shorter rows ===== -/
/-- a field: its class, its object, its kind -/
def hc_F (V : hc_V) (C : String) (T : u_T) (N o f kd : Nat) : Prop := (∀ w ∈ u_ws C T N, w ∈ lw_all) ∧ V.1[V.2.1.2.1 o]? = some (C, T, N) ∧ (T f).1 = C ∧ o < V.2.1.1 ∧ V.2.1.2.2.1 o = N ∧ f < N ∧ V.2.1.2.2.2.1 o f = kd
/-- a field that may be put -/
def hc_Fp (T : u_T) (N f : Nat) (ty : FieldType) : Prop := ∃ ty0 : Nat → FieldType, (∀ k, k < N → parseFieldDescriptor (T k).2.2.1 = some (ty0 k)) ∧ (∀ a, a < N → ∀ b, b < N → a ≠ b → (T a).2.1 ≠ (T b).2.1) ∧ (T f).2.2.2 = false ∧ ty0 f = ty ∧ f < N
/-- a field that holds an array -/
def hc_Af (V : hc_V) (o f kd : Nat) : Prop := (∃ k0 : Nat, V.2.1.2.2.2.2.2[k0]? = some (o, f)) ∧ V.2.1.2.2.2.1 o f = kd
/-- a value of a boolean -/
def hb01 (x : Int32) : Bool := decide (x &&& 1 = x)
theorem hb01_n {x : Int32} (h : hb01 x = true) : narrow .boolean (.int x) = .int x := by
  have h1 : x &&& 1 = x := of_decide_eq_true h
  have h2 : narrow .boolean (.int x) = .int (x &&& 1) := rfl
  rw [h2, h1]
theorem hb01_f {x : Int32} (h : hb01 x = true) : fits .boolean (.int x) = true := by
  have e := pk_and x (m := 1) 1 (by decide)
  rw [of_decide_eq_true h] at e
  rcases Nat.mod_two_eq_zero_or_one x.toBitVec.toNat with q | q
  · rw [show x.toBitVec.toNat % 2 ^ 1 = 0 from q] at e
    rw [e]; decide
  · rw [show x.toBitVec.toNat % 2 ^ 1 = 1 from q] at e
    rw [e]; decide
/-! ===== what the printed functions are made of ===== -/
def hk {α : Type} (c : Bool) (K : Option α) : Option α := if c = true then K else none
theorem hk_ok {α : Type} {c : Bool} {K : Option α} {r : α} (h : hk c K = some r) : c = true ∧ K = some r := hx_if h
/-- a name for a value -/
def hl {α β : Type} (x : α) (f : α → β) : β := f x
theorem hl_ok {α β : Type} {x : α} {f : α → Option β} {r : β} (h : hl x f = some r) : ∃ y, y = x ∧ f y = some r := ⟨x, rfl, h⟩
def ht (r : Nat × Int32 × hc_St) (K : Option (Nat × Int32 × hc_St)) : Option (Nat × Int32 × hc_St) := if r.1 = 0 then K else some (r.1, 0, r.2.2)
def hv {α : Type} (r : Nat × Int32 × hc_St) (v : α) (K : Option (Nat × hc_St × α)) : Option (Nat × hc_St × α) := if r.1 = 0 then K else some (r.1, r.2.2, v)
def hu {α : Type} (r : Nat × hc_St × α) (K : Option (Nat × Int32 × hc_St)) : Option (Nat × Int32 × hc_St) := if r.1 = 0 then K else some (r.1, 0, r.2.1)
def hw {α β : Type} (r : Nat × hc_St × α) (v : β) (K : Option (Nat × hc_St × β)) : Option (Nat × hc_St × β) := if r.1 = 0 then K else some (r.1, r.2.1, v)
theorem ht_0 {r : Nat × Int32 × hc_St} {K : Option (Nat × Int32 × hc_St)} (h : r.1 = 0) : ht r K = K := if_pos h
theorem ht_1 {r : Nat × Int32 × hc_St} {K : Option (Nat × Int32 × hc_St)} (h : ¬ r.1 = 0) : ht r K = some (r.1, 0, r.2.2) := if_neg h
theorem hv_0 {α : Type} {r : Nat × Int32 × hc_St} {v : α} {K : Option (Nat × hc_St × α)} (h : r.1 = 0) : hv r v K = K := if_pos h
theorem hv_1 {α : Type} {r : Nat × Int32 × hc_St} {v : α} {K : Option (Nat × hc_St × α)} (h : ¬ r.1 = 0) : hv r v K = some (r.1, r.2.2, v) := if_neg h
theorem hu_0 {α : Type} {r : Nat × hc_St × α} {K : Option (Nat × Int32 × hc_St)} (h : r.1 = 0) : hu r K = K := if_pos h
theorem hu_1 {α : Type} {r : Nat × hc_St × α} {K : Option (Nat × Int32 × hc_St)} (h : ¬ r.1 = 0) : hu r K = some (r.1, 0, r.2.1) := if_neg h
theorem hw_0 {α β : Type} {r : Nat × hc_St × α} {v : β} {K : Option (Nat × hc_St × β)} (h : r.1 = 0) : hw r v K = K := if_pos h
theorem hw_1 {α β : Type} {r : Nat × hc_St × α} {v : β} {K : Option (Nat × hc_St × β)} (h : ¬ r.1 = 0) : hw r v K = some (r.1, r.2.1, v) := if_neg h
/-- how a method that may throw ends -/
def hc_ot (rt : Int32 → Option Value) (r : Nat × Int32 × hc_St) : hc_Oc := if r.1 = 0 then .inl (rt r.2.1) else .inr r.1
theorem hc_CX {V : hc_V} {E : hc_E} {cc : ByteArray} {nL d : Nat} {own : String} {ret : Option FieldType} {σe : hc_St} {Y : hc_Y} {X : hc_X} {rt : Int32 → Option Value} {r : Nat × Int32 × hc_St} (hC : hc_C V E cc nL own ret d (hc_ot rt r) σe Y X) (z : ¬ r.1 = 0) : hc_C V E cc nL own ret d (.inr r.1) σe Y X := by
  have h : hc_ot rt r = .inr r.1 := if_neg z
  rw [← h]; exact hC
theorem hc_M0 {l : Launch} {V : hc_V} {y : MethodName} {ws : List Cond} {d : Nat} {E : hc_E} {A : Nat → Prop} {a : List Value} {am : Nat → Nat → Nat} {rb : List Nat} {σ σ' : hc_St} {rt : Int32 → Option Value} {r : Nat × Int32 × hc_St} (h : hc_M l V y ws d E A a am rb σ (hc_ot rt r) σ') (z : r.1 = 0) : hc_M l V y ws d E A a am rb σ (.inl (rt r.2.1)) σ' := by
  have h1 : hc_ot rt r = .inl (rt r.2.1) := if_pos z
  rw [← h1]; exact h
theorem hc_M1 {l : Launch} {V : hc_V} {y : MethodName} {ws : List Cond} {d : Nat} {E : hc_E} {A : Nat → Prop} {a : List Value} {am : Nat → Nat → Nat} {rb : List Nat} {σ σ' : hc_St} {rt : Int32 → Option Value} {r : Nat × Int32 × hc_St} (h : hc_M l V y ws d E A a am rb σ (hc_ot rt r) σ') (z : ¬ r.1 = 0) : hc_M l V y ws d E A a am rb σ (.inr r.1) σ' := by
  have h1 : hc_ot rt r = .inr r.1 := if_neg z
  rw [← h1]; exact h
/-- a new array may be made -/
def hna (n : Int32) (σ : hc_St) : Bool := decide (¬ n < 0) && (decide (1 ≤ σ.2.2.2.1) && (decide (n.toNatClampNeg ≤ σ.2.2.2.2) && decide (n.toNatClampNeg ≤ 100000000)))
/-- so many may be copied -/
def hcp (n : Int32) (a b : Nat) : Bool := decide (¬ n < 0) && (decide (n.toNatClampNeg ≤ a) && decide (n.toNatClampNeg ≤ b))
/-- an array may be made twice as long -/
def hlo (n : Nat) (σ : hc_St) : Bool := decide (1 ≤ σ.2.2.2.1) && (decide (2 * n ≤ σ.2.2.2.2) && decide (2 * n ≤ 100000000))
def hlg (σ : hc_St) (o f : Nat) : hc_St := pA (pU σ 1 (2 * gL σ o f)) o f (2 * gL σ o f) (va_cpy (σ.2.2.1 o f) (fun _ => 0) 0 0 (gL σ o f))
theorem hc_ne {x k : Int32} {z : Int} (h : ¬ x = k) (hz : k.toInt = z) : x.toInt ≠ z := fun e => h (Int32.toInt_inj.mp (e.trans hz.symm))
theorem hc_l0 {p : Int → Prop} : ∀ k ∈ ([] : List Int), p k := fun _ h => by cases h
theorem hc_l1 {p : Int → Prop} {a : Int} {l : List Int} (h : p a) (hl : ∀ k ∈ l, p k) : ∀ k ∈ a :: l, p k := List.forall_mem_cons.mpr ⟨h, hl⟩
theorem hc_lkD {l : List (Int × Int)} {dflt x : Int} (h : ∀ k ∈ l.map (·.1), x ≠ k) : Op.lookupswitch.offset l dflt x = dflt := by
  induction l with
  | nil => rfl
  | cons q l ih =>
    rw [show q = (q.1, q.2) from rfl, Op.lookupswitch.offset_cons, if_neg (fun e => h q.1 (List.mem_cons_self) e.symm)]
    exact ih (fun k hk => h k (List.mem_cons_of_mem _ hk))
theorem hc_rb {a b : List Nat} (h : (a.all fun i => b.contains i) = true) : ∀ i ∈ a, i ∈ b := fun i hi => List.contains_iff_mem.mp (List.all_eq_true.mp h i hi)
theorem hc_mm {b : List Nat} {o : Nat} (h : b.contains o = true) : o ∈ b := List.contains_iff_mem.mp h
/-- an object of the world -/
def hc_Ob (V : hc_V) (C : String) (o : Nat) : Prop := ∃ (T : u_T) (N : Nat), V.1[V.2.1.2.1 o]? = some (C, T, N) ∧ o < V.2.1.1
section HCS
variable {V : hc_V} {E : hc_E} {cc : ByteArray} {nL d pc : Nat} {own : String} {ret : Option FieldType} {oc : hc_Oc} {σe : hc_St} {Y : hc_Y} {X : hc_X} {lv lv' : List (Nat × Value)} {st : List Value} {σ : hc_St} {am : Nat → Nat → Nat} {tm : hc_T} {C : String} {T : u_T} {N idx o f : Nat}
theorem hr_gI (hC : hc_C V E cc nL own ret d oc σe Y X) (hF : hc_F V C T N o f 0) (hd : decode cc pc = .ok (.getfield idx, 3)) (hlk : Cond.fieldLink own idx C (T f).2.1 (T f).2.2.1 ∈ lw_all) (k : hc_At V E nL X (pc + 3) lv (.int (gI σ o f) :: st) σ am tm) : hc_At V E nL X pc lv (.ref (E.2.1 o) :: st) σ am tm :=
  hr_get hC o f hd hlk hF.1 hF.2.1 hF.2.2.1 hF.2.2.2.1 rfl hF.2.2.2.2.1 hF.2.2.2.2.2.1 (hc_fvI hF.2.2.2.2.2.2) k
theorem hr_gO (q : Nat) (hC : hc_C V E cc nL own ret d oc σe Y X) (hF : hc_F V C T N o f 5) (hq : V.2.1.2.2.2.2.1 o f = q) (hd : decode cc pc = .ok (.getfield idx, 3)) (hlk : Cond.fieldLink own idx C (T f).2.1 (T f).2.2.1 ∈ lw_all) (k : hc_At V E nL X (pc + 3) lv (.ref (E.2.1 q) :: st) σ am tm) : hc_At V E nL X pc lv (.ref (E.2.1 o) :: st) σ am tm :=
  hr_get hC o f hd hlk hF.1 hF.2.1 hF.2.2.1 hF.2.2.2.1 rfl hF.2.2.2.2.1 hF.2.2.2.2.2.1 (hc_fvO hF.2.2.2.2.2.2 hq) k
theorem hr_g6 (q : Nat) (hC : hc_C V E cc nL own ret d oc σe Y X) (hF : hc_F V C T N o f 6) (hq : V.2.1.2.2.2.2.1 o f = q) (hn : gI σ o f ≠ 0) (hd : decode cc pc = .ok (.getfield idx, 3)) (hlk : Cond.fieldLink own idx C (T f).2.1 (T f).2.2.1 ∈ lw_all) (k : hc_At V E nL X (pc + 3) lv (.ref (E.2.1 q) :: st) σ am tm) : hc_At V E nL X pc lv (.ref (E.2.1 o) :: st) σ am tm :=
  hr_get hC o f hd hlk hF.1 hF.2.1 hF.2.2.1 hF.2.2.2.1 rfl hF.2.2.2.2.1 hF.2.2.2.2.2.1 (hc_fv6 hF.2.2.2.2.2.2 hq hn) k
theorem hr_gA {kd : Nat} (hC : hc_C V E cc nL own ret d oc σe Y X) (hF : hc_F V C T N o f kd) (hak : hc_ak kd = true) (hd : decode cc pc = .ok (.getfield idx, 3)) (hlk : Cond.fieldLink own idx C (T f).2.1 (T f).2.2.1 ∈ lw_all) (k : hc_At V E nL X (pc + 3) lv (.ref (am o f) :: st) σ am tm) : hc_At V E nL X pc lv (.ref (E.2.1 o) :: st) σ am tm :=
  hr_get hC o f hd hlk hF.1 hF.2.1 hF.2.2.1 hF.2.2.2.1 rfl hF.2.2.2.2.1 hF.2.2.2.2.2.1 (hc_fvA (by rw [hF.2.2.2.2.2.2]; exact hak)) k
theorem hr_gIN {host : String} (hC : hc_C V E cc nL own ret d oc σe Y X) (hF : hc_F V C T N o f 0) (hd : decode cc pc = .ok (.getfield idx, 3)) (hlk : va_Nw (Cond.fieldLinkNest own idx C (T f).2.1 (T f).2.2.1 host) X.2.2.2.2.1) (k : hc_At V E nL X (pc + 3) lv (.int (gI σ o f) :: st) σ am tm) : hc_At V E nL X pc lv (.ref (E.2.1 o) :: st) σ am tm :=
  hr_getN hC o f hd (va_Nw.use rfl hlk) hF.1 hF.2.1 hF.2.2.1 hF.2.2.2.1 rfl hF.2.2.2.2.1 hF.2.2.2.2.2.1 (hc_fvI hF.2.2.2.2.2.2) k
theorem hr_gON {host : String} (q : Nat) (hC : hc_C V E cc nL own ret d oc σe Y X) (hF : hc_F V C T N o f 5) (hq : V.2.1.2.2.2.2.1 o f = q) (hd : decode cc pc = .ok (.getfield idx, 3)) (hlk : va_Nw (Cond.fieldLinkNest own idx C (T f).2.1 (T f).2.2.1 host) X.2.2.2.2.1) (k : hc_At V E nL X (pc + 3) lv (.ref (E.2.1 q) :: st) σ am tm) : hc_At V E nL X pc lv (.ref (E.2.1 o) :: st) σ am tm :=
  hr_getN hC o f hd (va_Nw.use rfl hlk) hF.1 hF.2.1 hF.2.2.1 hF.2.2.2.1 rfl hF.2.2.2.2.1 hF.2.2.2.2.2.1 (hc_fvO hF.2.2.2.2.2.2 hq) k
theorem hr_gAN {host : String} {kd : Nat} (hC : hc_C V E cc nL own ret d oc σe Y X) (hF : hc_F V C T N o f kd) (hak : hc_ak kd = true) (hd : decode cc pc = .ok (.getfield idx, 3)) (hlk : va_Nw (Cond.fieldLinkNest own idx C (T f).2.1 (T f).2.2.1 host) X.2.2.2.2.1) (k : hc_At V E nL X (pc + 3) lv (.ref (am o f) :: st) σ am tm) : hc_At V E nL X pc lv (.ref (E.2.1 o) :: st) σ am tm :=
  hr_getN hC o f hd (va_Nw.use rfl hlk) hF.1 hF.2.1 hF.2.2.1 hF.2.2.2.1 rfl hF.2.2.2.2.1 hF.2.2.2.2.2.1 (hc_fvA (by rw [hF.2.2.2.2.2.2]; exact hak)) k
theorem hc_pIv {G : hc_G} {v : Int32} (h : G.2.2.2.1 o f = 0) : hc_fv G E (pI σ o f v) am o f = .int v := by rw [hc_fvI h]; simp only [gI, pI, hc_up2_s]
theorem hr_pI {v : Int32} (hC : hc_C V E cc nL own ret d oc σe Y X) (hF : hc_F V C T N o f 0) (hP : hc_Fp T N f .int) (hd : decode cc pc = .ok (.putfield idx, 3)) (hlk : Cond.fieldLink own idx C (T f).2.1 (T f).2.2.1 ∈ lw_all) (k : hc_At V E nL X (pc + 3) lv st (pI σ o f v) am tm) : hc_At V E nL X pc lv (.int v :: .ref (E.2.1 o) :: st) σ am tm := by
  obtain ⟨ty0, h1, h2, h3, h4, -⟩ := hP
  exact hr_put hC o f hd hlk hF.1 ty0 h1 h2 hF.2.1 hF.2.2.1 hF.2.2.2.1 rfl hF.2.2.2.2.1 hF.2.2.2.2.2.1 h3 h4 rfl rfl (hc_pIv hF.2.2.2.2.2.2) k
theorem hr_pZ {v : Int32} (hC : hc_C V E cc nL own ret d oc σe Y X) (hF : hc_F V C T N o f 0) (hP : hc_Fp T N f .boolean) (hv : hb01 v = true) (hd : decode cc pc = .ok (.putfield idx, 3)) (hlk : Cond.fieldLink own idx C (T f).2.1 (T f).2.2.1 ∈ lw_all) (k : hc_At V E nL X (pc + 3) lv st (pI σ o f v) am tm) : hc_At V E nL X pc lv (.int v :: .ref (E.2.1 o) :: st) σ am tm := by
  obtain ⟨ty0, h1, h2, h3, h4, -⟩ := hP
  exact hr_put hC o f hd hlk hF.1 ty0 h1 h2 hF.2.1 hF.2.2.1 hF.2.2.2.1 rfl hF.2.2.2.2.1 hF.2.2.2.2.2.1 h3 h4 (hb01_n hv) (hb01_f hv) (hc_pIv hF.2.2.2.2.2.2) k
theorem hr_pIN {host : String} {v : Int32} (hC : hc_C V E cc nL own ret d oc σe Y X) (hF : hc_F V C T N o f 0) (hP : hc_Fp T N f .int) (hd : decode cc pc = .ok (.putfield idx, 3)) (hlk : va_Nw (Cond.fieldLinkNest own idx C (T f).2.1 (T f).2.2.1 host) X.2.2.2.2.1) (k : hc_At V E nL X (pc + 3) lv st (pI σ o f v) am tm) : hc_At V E nL X pc lv (.int v :: .ref (E.2.1 o) :: st) σ am tm := by
  obtain ⟨ty0, h1, h2, h3, h4, -⟩ := hP
  exact hr_putN hC o f hd (va_Nw.use rfl hlk) hF.1 ty0 h1 h2 hF.2.1 hF.2.2.1 hF.2.2.2.1 rfl hF.2.2.2.2.1 hF.2.2.2.2.2.1 h3 h4 rfl rfl (hc_pIv hF.2.2.2.2.2.2) k
/-- the object that may be null is put: it isn't null then -/
theorem hr_p6 {R : String} (q : Nat) (hC : hc_C V E cc nL own ret d oc σe Y X) (hF : hc_F V C T N o f 6) (hq : V.2.1.2.2.2.2.1 o f = q) (hP : hc_Fp T N f (.object R)) (hd : decode cc pc = .ok (.putfield idx, 3)) (hlk : Cond.fieldLink own idx C (T f).2.1 (T f).2.2.1 ∈ lw_all) (k : hc_At V E nL X (pc + 3) lv st (pI σ o f 1) am tm) : hc_At V E nL X pc lv (.ref (E.2.1 q) :: .ref (E.2.1 o) :: st) σ am tm := by
  obtain ⟨ty0, h1, h2, h3, h4, -⟩ := hP
  exact hr_put hC o f hd hlk hF.1 ty0 h1 h2 hF.2.1 hF.2.2.1 hF.2.2.2.1 rfl hF.2.2.2.2.1 hF.2.2.2.2.2.1 h3 h4 rfl rfl (hc_fv6 hF.2.2.2.2.2.2 hq (by simp only [gI, pI, hc_up2_s]; decide)) k
theorem hr_pA {q kd n : Nat} {g : Nat → Int32} {t : FieldType} (hC : hc_C V E cc nL own ret d oc σe Y X) (hF : hc_F V C T N o f kd) (hak : hc_ak kd = true) (hA : hc_Af V o f kd) (hP : hc_Fp T N f (.array t)) (hrb : o ∈ Y.2.2.2) (hd : decode cc pc = .ok (.putfield idx, 3)) (hlk : Cond.fieldLink own idx C (T f).2.1 (T f).2.2.1 ∈ lw_all) (k : hc_At V E nL X (pc + 3) lv st (pA σ o f n g) (hc_up2 am o f q) []) : hc_At V E nL X pc lv (.ref q :: .ref (E.2.1 o) :: st) σ am [(q, kd, n, g)] := by
  obtain ⟨ty0, h1, h2, h3, h4, -⟩ := hP
  obtain ⟨⟨k0, hk0⟩, -⟩ := hA
  exact hr_putA hC o f hd hlk hF.1 ty0 h1 h2 hF.2.1 hF.2.2.1 hF.2.2.2.1 rfl hF.2.2.2.2.1 hF.2.2.2.2.2.1 h3 h4 rfl rfl hF.2.2.2.2.2.2 hak hk0 hrb k
theorem hs_iald {i : Int32} (hC : hc_C V E cc nL own ret d oc σe Y X) (hA : hc_Af V o f 1) (hi : inb i (gL σ o f) = true) (hd : decode cc pc = .ok (.iaload, 1)) (k : hc_At V E nL X (pc + 1) lv (.int (gC σ o f i) :: st) σ am tm) : hc_At V E nL X pc lv (.int i :: .ref (am o f) :: st) σ am tm := by
  obtain ⟨⟨k0, h0⟩, h1⟩ := hA
  exact hr_iald hC o f hd h0 h1 hi k
theorem hs_bald {i : Int32} (hC : hc_C V E cc nL own ret d oc σe Y X) (hA : hc_Af V o f 2) (hi : inb i (gL σ o f) = true) (hd : decode cc pc = .ok (.baload, 1)) (k : hc_At V E nL X (pc + 1) lv (.int (gC σ o f i).toInt8.toInt32 :: st) σ am tm) : hc_At V E nL X pc lv (.int i :: .ref (am o f) :: st) σ am tm := by
  obtain ⟨⟨k0, h0⟩, h1⟩ := hA
  exact hr_bald hC o f hd h0 h1 hi k
theorem hs_zald {i : Int32} (hC : hc_C V E cc nL own ret d oc σe Y X) (hA : hc_Af V o f 3) (hi : inb i (gL σ o f) = true) (hd : decode cc pc = .ok (.baload, 1)) (k : hc_At V E nL X (pc + 1) lv (.int (vp_nar .boolean (gC σ o f i)) :: st) σ am tm) : hc_At V E nL X pc lv (.int i :: .ref (am o f) :: st) σ am tm := by
  obtain ⟨⟨k0, h0⟩, h1⟩ := hA
  exact hr_zald hC o f hd h0 h1 hi k
theorem hs_sald {i : Int32} (hC : hc_C V E cc nL own ret d oc σe Y X) (hA : hc_Af V o f 4) (hi : inb i (gL σ o f) = true) (hd : decode cc pc = .ok (.aaload, 1)) (k : hc_At V E nL X (pc + 1) lv (.ref (E.2.2.2.1 (gC σ o f i).toNatClampNeg) :: st) σ am tm) : hc_At V E nL X pc lv (.int i :: .ref (am o f) :: st) σ am tm := by
  obtain ⟨⟨k0, h0⟩, h1⟩ := hA
  exact hr_sald hC o f hd h0 h1 hi k
theorem hs_lald {i : Int32} (hC : hc_C V E cc nL own ret d oc σe Y X) (hA : hc_Af V o f 7) (hi : inb i (gL σ o f) = true) (hd : decode cc pc = .ok (.laload, 1)) (k : hc_At V E nL X (pc + 1) lv (.long (gC σ o f i).toInt64 :: st) σ am tm) : hc_At V E nL X pc lv (.int i :: .ref (am o f) :: st) σ am tm := by
  obtain ⟨⟨k0, h0⟩, h1⟩ := hA
  exact hr_lald hC o f hd h0 h1 hi k
theorem hs_iast {i x : Int32} (hC : hc_C V E cc nL own ret d oc σe Y X) (hA : hc_Af V o f 1) (hi : inb i (gL σ o f) = true) (hd : decode cc pc = .ok (.iastore, 1)) (k : hc_At V E nL X (pc + 1) lv st (pC σ o f i x) am tm) : hc_At V E nL X pc lv (.int x :: .int i :: .ref (am o f) :: st) σ am tm := by
  obtain ⟨⟨k0, h0⟩, h1⟩ := hA
  exact hr_iast hC o f hd h0 h1 hi k
theorem hs_bast {i x : Int32} (hC : hc_C V E cc nL own ret d oc σe Y X) (hA : hc_Af V o f 2) (hi : inb i (gL σ o f) = true) (hd : decode cc pc = .ok (.bastore, 1)) (k : hc_At V E nL X (pc + 1) lv st (pC σ o f i x) am tm) : hc_At V E nL X pc lv (.int x :: .int i :: .ref (am o f) :: st) σ am tm := by
  obtain ⟨⟨k0, h0⟩, h1⟩ := hA
  exact hr_bast hC o f hd h0 h1 hi k
theorem hs_zast {i x : Int32} (hC : hc_C V E cc nL own ret d oc σe Y X) (hA : hc_Af V o f 3) (hi : inb i (gL σ o f) = true) (hd : decode cc pc = .ok (.bastore, 1)) (k : hc_At V E nL X (pc + 1) lv st (pC σ o f i x) am tm) : hc_At V E nL X pc lv (.int x :: .int i :: .ref (am o f) :: st) σ am tm := by
  obtain ⟨⟨k0, h0⟩, h1⟩ := hA
  exact hr_zast hC o f hd h0 h1 hi k
theorem hs_last {i x : Int32} (hC : hc_C V E cc nL own ret d oc σe Y X) (hA : hc_Af V o f 7) (hi : inb i (gL σ o f) = true) (hd : decode cc pc = .ok (.lastore, 1)) (k : hc_At V E nL X (pc + 1) lv st (pC σ o f i x) am tm) : hc_At V E nL X pc lv (.long x.toInt64 :: .int i :: .ref (am o f) :: st) σ am tm := by
  obtain ⟨⟨k0, h0⟩, h1⟩ := hA
  exact hr_last hC o f hd h0 h1 hi k
theorem hs_alen1 (hC : hc_C V E cc nL own ret d oc σe Y X) (hA : hc_Af V o f 1) (hd : decode cc pc = .ok (.arraylength, 1)) (k : hc_At V E nL X (pc + 1) lv (.int (nI (gL σ o f)) :: st) σ am tm) : hc_At V E nL X pc lv (.ref (am o f) :: st) σ am tm := by
  obtain ⟨⟨k0, h0⟩, h1⟩ := hA
  exact hr_alen (t0 := 0) (ty := .int) hC o f hd h0 (by rw [h1]; rfl) k
theorem hs_alen2 (hC : hc_C V E cc nL own ret d oc σe Y X) (hA : hc_Af V o f 2) (hd : decode cc pc = .ok (.arraylength, 1)) (k : hc_At V E nL X (pc + 1) lv (.int (nI (gL σ o f)) :: st) σ am tm) : hc_At V E nL X pc lv (.ref (am o f) :: st) σ am tm := by
  obtain ⟨⟨k0, h0⟩, h1⟩ := hA
  exact hr_alen (t0 := 1) (ty := .byte) hC o f hd h0 (by rw [h1]; rfl) k
theorem hs_alen3 (hC : hc_C V E cc nL own ret d oc σe Y X) (hA : hc_Af V o f 3) (hd : decode cc pc = .ok (.arraylength, 1)) (k : hc_At V E nL X (pc + 1) lv (.int (nI (gL σ o f)) :: st) σ am tm) : hc_At V E nL X pc lv (.ref (am o f) :: st) σ am tm := by
  obtain ⟨⟨k0, h0⟩, h1⟩ := hA
  exact hr_alen (t0 := 2) (ty := .boolean) hC o f hd h0 (by rw [h1]; rfl) k
theorem hs_alen4 (hC : hc_C V E cc nL own ret d oc σe Y X) (hA : hc_Af V o f 4) (hd : decode cc pc = .ok (.arraylength, 1)) (k : hc_At V E nL X (pc + 1) lv (.int (nI (gL σ o f)) :: st) σ am tm) : hc_At V E nL X pc lv (.ref (am o f) :: st) σ am tm := by
  obtain ⟨⟨k0, h0⟩, h1⟩ := hA
  exact hr_alen (t0 := 3) (ty := .object "java/lang/String") hC o f hd h0 (by rw [h1]; rfl) k
theorem hs_alen7 (hC : hc_C V E cc nL own ret d oc σe Y X) (hA : hc_Af V o f 7) (hd : decode cc pc = .ok (.arraylength, 1)) (k : hc_At V E nL X (pc + 1) lv (.int (nI (gL σ o f)) :: st) σ am tm) : hc_At V E nL X pc lv (.ref (am o f) :: st) σ am tm := by
  obtain ⟨⟨k0, h0⟩, h1⟩ := hA
  exact hr_alen (t0 := 4) (ty := .long) hC o f hd h0 (by rw [h1]; rfl) k
theorem hr_tableD (hC : hc_C V E cc nL own ret d oc σe Y X) {dflt lo hi : Int} {offs : Array Int} {len : Nat} {x : Int32} (tgt : Nat) {ks : List Int} (hd : decode cc pc = .ok (.tableswitch dflt lo hi offs, len)) (hx : ∀ k ∈ ks, x.toInt ≠ k) (hs : ((offs.size : Nat) : Int) = hi - lo + 1) (ha : ((List.range offs.size).all fun i => decide (offs[i]? = some dflt) || decide ((lo + (i : Int)) ∈ ks)) = true) (ht : (pc : Int) + dflt = (tgt : Int)) (k : hc_At V E nL X tgt lv st σ am tm) : hc_At V E nL X pc lv (.int x :: st) σ am tm := by
  by_cases h1 : x.toInt < lo
  · exact hr_tableOut hC tgt hd (Or.inl h1) ht k
  · by_cases h2 : hi < x.toInt
    · exact hr_tableOut hC tgt hd (Or.inr h2) ht k
    · refine hr_tableIn hC tgt hd h1 h2 ?_ ht k
      have hi : (x.toInt - lo).toNat < offs.size := by omega
      have h3 := List.all_eq_true.mp ha _ (List.mem_range.mpr hi)
      simp only [Bool.or_eq_true, decide_eq_true_eq] at h3
      rcases h3 with h3 | h3
      · exact h3
      · exact absurd (by omega) (hx _ h3)
theorem hs_newI {n : Int32} (hC : hc_C V E cc nL own ret d oc σe Y X) (hd : decode cc pc = .ok (.newarray .int, 2)) (hn : hna n σ = true) (k : ∀ q : Nat, hc_At V E nL X (pc + 2) lv (.ref q :: st) (pU σ 1 n.toNatClampNeg) am [(q, 1, n.toNatClampNeg, fun _ => 0)]) : hc_At V E nL X pc lv (.int n :: st) σ am [] := by
  simp only [hna, Bool.and_eq_true, decide_eq_true_eq] at hn
  exact hr_newI hC hd q455 hn.1 hn.2.1 hn.2.2.1 hn.2.2.2 k
theorem hs_newB {n : Int32} (hC : hc_C V E cc nL own ret d oc σe Y X) (hd : decode cc pc = .ok (.newarray .byte, 2)) (hn : hna n σ = true) (k : ∀ q : Nat, hc_At V E nL X (pc + 2) lv (.ref q :: st) (pU σ 1 n.toNatClampNeg) am [(q, 2, n.toNatClampNeg, fun _ => 0)]) : hc_At V E nL X pc lv (.int n :: st) σ am [] := by
  simp only [hna, Bool.and_eq_true, decide_eq_true_eq] at hn
  exact hr_newB hC hd q416 hn.1 hn.2.1 hn.2.2.1 hn.2.2.2 k
/-- a contract out of a walk of the body -/
theorem hc_enter2 {l : Launch} {y : MethodName} {A : Nat → Prop} {a : List Value} {rb : List Nat} (lv0 : List (Nat × Value)) (hy : plainName own = true) (hown : y.cls = own) (hV : hc_St1 V) (hnd : V.2.1.2.2.2.2.2.Nodup) (hlv : lv_args 0 a = lv0) (hle : (lg_sl a).length ≤ nL)
    (body : ∀ X : hc_X, hc_C V E cc nL own ret d oc σe (l, A, am, rb) X → X.2.2.2.2.2.2.2.2.2.1.exceptionTable.isEmpty = true → hc_At V E nL X 0 lv0 [] σ am []) : hc_M l V y (ws_ y cc nL ret) d E A a am rb σ oc σe := by
  subst hlv
  refine hc_enter _ (by rw [hown]; exact hy) hown hV hnd (fun m => ⟨_, ?_, lv_entry a hle⟩) body
  rw [lg_entry_eq]
theorem hs_callV (hC : hc_C V E cc nL own ret d oc σe Y X) {idx : Nat} {y : MethodName} {bytes : ByteArray} {maxL : Nat} {r : Option FieldType} {rb' : List Nat} {v : Option Value} {σ1 : hc_St} (o : Nat) (As rest : List Value) (hd : decode cc pc = .ok (.invokevirtual idx, 3)) (hlk : Cond.methodLink own idx y ∈ lw_all) (hins : Cond.instanceMethod y ∈ lw_all) (hsel : Cond.selects C y y ∈ lw_all) (hini : Cond.initialized C ∈ lw_all) (hcode : Cond.code y bytes maxL r ∈ lw_all) (hy : C ≠ "java/lang/invoke/MethodHandle" ∧ C ≠ "java/lang/invoke/VarHandle") (hyC : y.cls = C) (hO : hc_Ob V C o) (hlen : (parseMethodDescriptor y.desc).map (fun sig => sig.parameters.length) = some As.length) (hw : (rest.map fun v => v.category).sum + (maxL + 11) ≤ 46) (hd1 : 1 ≤ d)
    (hM : hc_M Y.1 V y (ws_ y bytes maxL r) (d - 1) E Y.2.1 (.ref (E.2.1 o) :: As) am rb' σ (.inl v) σ1) (hrb : ∀ i ∈ rb', i ∈ Y.2.2.2) (hst : st = As.reverse ++ .ref (E.2.1 o) :: rest) (k : ∀ am1, (∀ i j, i ∉ rb' → am1 i j = am i j) → hc_At V E nL X (pc + 3) lv (v.toList ++ rest) σ1 am1 []) : hc_At V E nL X pc lv st σ am [] := by
  obtain ⟨T, N, h1, h2⟩ := hO
  exact hr_callV hC o As rest hd hlk hins hsel hini hcode hy hyC h1 h2 rfl hlen hw hd1 hM hrb hst k
theorem hs_callV0 (hC : hc_C V E cc nL own ret d oc σe Y X) {idx : Nat} {y : MethodName} {bytes : ByteArray} {maxL : Nat} {r : Option FieldType} {v : Option Value} {σ1 : hc_St} (o : Nat) (As rest : List Value) (hd : decode cc pc = .ok (.invokevirtual idx, 3)) (hlk : Cond.methodLink own idx y ∈ lw_all) (hins : Cond.instanceMethod y ∈ lw_all) (hsel : Cond.selects C y y ∈ lw_all) (hini : Cond.initialized C ∈ lw_all) (hcode : Cond.code y bytes maxL r ∈ lw_all) (hy : C ≠ "java/lang/invoke/MethodHandle" ∧ C ≠ "java/lang/invoke/VarHandle") (hyC : y.cls = C) (hO : hc_Ob V C o) (hlen : (parseMethodDescriptor y.desc).map (fun sig => sig.parameters.length) = some As.length) (hw : (rest.map fun v => v.category).sum + (maxL + 11) ≤ 46) (hd1 : 1 ≤ d)
    (hM : hc_M Y.1 V y (ws_ y bytes maxL r) (d - 1) E Y.2.1 (.ref (E.2.1 o) :: As) am [] σ (.inl v) σ1) (hst : st = As.reverse ++ .ref (E.2.1 o) :: rest) (k : hc_At V E nL X (pc + 3) lv (v.toList ++ rest) σ1 am []) : hc_At V E nL X pc lv st σ am [] := by
  obtain ⟨T, N, h1, h2⟩ := hO
  refine hr_callV hC o As rest hd hlk hins hsel hini hcode hy hyC h1 h2 rfl hlen hw hd1 hM (fun i h => by cases h) hst (fun am1 ha => ?_)
  have e : am1 = am := funext fun i => funext fun j => ha i j (by simp)
  rw [e]; exact k
theorem hs_callVx {kx : Nat} {σ1 : hc_St} (hC : hc_C V E cc nL own ret d (.inr kx) σ1 Y X) (hem : X.2.2.2.2.2.2.2.2.2.1.exceptionTable.isEmpty = true) {idx : Nat} {y : MethodName} {bytes : ByteArray} {maxL : Nat} {r : Option FieldType} {rb' : List Nat} (o : Nat) (As rest : List Value) (hd : decode cc pc = .ok (.invokevirtual idx, 3)) (hlk : Cond.methodLink own idx y ∈ lw_all) (hins : Cond.instanceMethod y ∈ lw_all) (hsel : Cond.selects C y y ∈ lw_all) (hini : Cond.initialized C ∈ lw_all) (hcode : Cond.code y bytes maxL r ∈ lw_all) (hy : C ≠ "java/lang/invoke/MethodHandle" ∧ C ≠ "java/lang/invoke/VarHandle") (hyC : y.cls = C) (hO : hc_Ob V C o) (hlen : (parseMethodDescriptor y.desc).map (fun sig => sig.parameters.length) = some As.length) (hw : (rest.map fun v => v.category).sum + (maxL + 11) ≤ 46) (hd1 : 1 ≤ d)
    (hM : hc_M Y.1 V y (ws_ y bytes maxL r) (d - 1) E Y.2.1 (.ref (E.2.1 o) :: As) am rb' σ (.inr kx) σ1) (hrb : ∀ i ∈ rb', i ∈ Y.2.2.2) (hst : st = As.reverse ++ .ref (E.2.1 o) :: rest) : hc_At V E nL X pc lv st σ am [] := by
  obtain ⟨T, N, h1, h2⟩ := hO
  exact hr_callVx hC hem o As rest hd hlk hins hsel hini hcode hy hyC h1 h2 rfl hlen hw hd1 hM hrb hst
theorem hs_callS (hC : hc_C V E cc nL own ret d oc σe Y X) {idx : Nat} {y : MethodName} {bytes : ByteArray} {maxL : Nat} {r : Option FieldType} {rb' : List Nat} {v : Option Value} {σ1 : hc_St} (As rest : List Value) (hd : decode cc pc = .ok (.invokestatic idx, 3)) (hlk : Cond.methodLink own idx y ∈ lw_all) (hins : Cond.static y ∈ lw_all) (hini : Cond.initialized C ∈ lw_all) (hcode : Cond.code y bytes maxL r ∈ lw_all) (hy : C ≠ "java/lang/invoke/MethodHandle" ∧ C ≠ "java/lang/invoke/VarHandle") (hyC : y.cls = C) (hlen : (parseMethodDescriptor y.desc).map (fun sig => sig.parameters.length) = some As.length) (hw : (rest.map fun v => v.category).sum + (maxL + 11) ≤ 46) (hd1 : 1 ≤ d)
    (hM : hc_M Y.1 V y (ws_ y bytes maxL r) (d - 1) E Y.2.1 As am rb' σ (.inl v) σ1) (hrb : ∀ i ∈ rb', i ∈ Y.2.2.2) (hst : st = As.reverse ++ rest) (k : ∀ am1, (∀ i j, i ∉ rb' → am1 i j = am i j) → hc_At V E nL X (pc + 3) lv (v.toList ++ rest) σ1 am1 []) : hc_At V E nL X pc lv st σ am [] := by
  exact hr_callS hC As rest hd hlk hins hini hcode hy hyC hlen hw hd1 hM hrb hst k
theorem hs_callS0 (hC : hc_C V E cc nL own ret d oc σe Y X) {idx : Nat} {y : MethodName} {bytes : ByteArray} {maxL : Nat} {r : Option FieldType} {v : Option Value} {σ1 : hc_St} (As rest : List Value) (hd : decode cc pc = .ok (.invokestatic idx, 3)) (hlk : Cond.methodLink own idx y ∈ lw_all) (hins : Cond.static y ∈ lw_all) (hini : Cond.initialized C ∈ lw_all) (hcode : Cond.code y bytes maxL r ∈ lw_all) (hy : C ≠ "java/lang/invoke/MethodHandle" ∧ C ≠ "java/lang/invoke/VarHandle") (hyC : y.cls = C) (hlen : (parseMethodDescriptor y.desc).map (fun sig => sig.parameters.length) = some As.length) (hw : (rest.map fun v => v.category).sum + (maxL + 11) ≤ 46) (hd1 : 1 ≤ d)
    (hM : hc_M Y.1 V y (ws_ y bytes maxL r) (d - 1) E Y.2.1 As am [] σ (.inl v) σ1) (hst : st = As.reverse ++ rest) (k : hc_At V E nL X (pc + 3) lv (v.toList ++ rest) σ1 am []) : hc_At V E nL X pc lv st σ am [] := by
  refine hr_callS hC As rest hd hlk hins hini hcode hy hyC hlen hw hd1 hM (fun i h => by cases h) hst (fun am1 ha => ?_)
  have e : am1 = am := funext fun i => funext fun j => ha i j (by simp)
  rw [e]; exact k
theorem hs_callSx {kx : Nat} {σ1 : hc_St} (hC : hc_C V E cc nL own ret d (.inr kx) σ1 Y X) (hem : X.2.2.2.2.2.2.2.2.2.1.exceptionTable.isEmpty = true) {idx : Nat} {y : MethodName} {bytes : ByteArray} {maxL : Nat} {r : Option FieldType} {rb' : List Nat} (As rest : List Value) (hd : decode cc pc = .ok (.invokestatic idx, 3)) (hlk : Cond.methodLink own idx y ∈ lw_all) (hins : Cond.static y ∈ lw_all) (hini : Cond.initialized C ∈ lw_all) (hcode : Cond.code y bytes maxL r ∈ lw_all) (hy : C ≠ "java/lang/invoke/MethodHandle" ∧ C ≠ "java/lang/invoke/VarHandle") (hyC : y.cls = C) (hlen : (parseMethodDescriptor y.desc).map (fun sig => sig.parameters.length) = some As.length) (hw : (rest.map fun v => v.category).sum + (maxL + 11) ≤ 46) (hd1 : 1 ≤ d)
    (hM : hc_M Y.1 V y (ws_ y bytes maxL r) (d - 1) E Y.2.1 As am rb' σ (.inr kx) σ1) (hrb : ∀ i ∈ rb', i ∈ Y.2.2.2) (hst : st = As.reverse ++ rest) : hc_At V E nL X pc lv st σ am [] := by
  exact hr_callSx hC hem As rest hd hlk hins hini hcode hy hyC hlen hw hd1 hM hrb hst
end HCS

/-! ===== the world of this claim ===== -/
def hc_cl : List vw_C := [(RX1, TX1, 18), (RX2, TX2, 3), (RX3, TX3, 6), (RX4, TX4, 2), (RX5, TX5, 11), (RX6, TX6, 11), (RX7, TX7, 6), (RX8, TX8, 16), (RX9, TX9, 2), (RX10, TX10, 8), (RX11, TX11, 6), (RX12, TX12, 7), (RX13, TX13, 19), (RX14, TX14, 2), (RX15, TX15, 9), (RX16, TX16, 9), (RX17, TX17, 5), (RX18, TX18, 1), (RX19, TX19, 7), (RX20, TX20, 5), (RX21, TX21, 87)]
def hg_c : List Nat := [0, 1, 2, 3, 3, 4, 5, 6, 7, 8, 9, 10, 3, 11, 12, 13, 14, 15, 16, 17, 18, 19, 3, 20]
def hg_n : List Nat := [18, 3, 6, 2, 2, 11, 11, 6, 16, 2, 8, 6, 2, 7, 19, 2, 9, 9, 5, 1, 7, 5, 2, 87]
def hg_k : List (List Nat) := [[5, 5, 5, 5, 5, 5, 5, 5, 5, 5, 5, 0, 0, 0, 0, 0, 0, 0], [4, 4, 4], [5, 1, 1, 1, 0, 1], [2, 0], [2, 0], [5, 5, 5, 4, 6, 0, 0, 0, 0, 0, 0], [1, 1, 1, 1, 1, 1, 1, 1, 1, 1, 0], [5, 5, 0, 1, 1, 0], [5, 5, 5, 5, 5, 5, 5, 1, 1, 0, 0, 0, 0, 0, 0, 0], [0, 0], [1, 1, 1, 1, 0, 1, 1, 0], [1, 1, 1, 0, 1, 0], [2, 0], [1, 0, 1, 0, 1, 1, 0], [5, 5, 5, 5, 5, 5, 5, 5, 1, 1, 1, 0, 0, 0, 0, 0, 0, 0, 0], [5, 0], [5, 5, 1, 1, 1, 1, 0, 0, 0], [5, 5, 5, 1, 0, 1, 0, 1, 0], [0, 1, 2, 3, 0], [1], [5, 5, 5, 1, 0, 0, 0], [5, 1, 1, 0, 0], [2, 0], [4, 4, 4, 4, 0, 2, 0, 2, 0, 0, 0, 1, 1, 2, 1, 0, 0, 0, 2, 1, 1, 1, 1, 1, 1, 1, 1, 1, 0, 0, 0, 1, 1, 1, 0, 0, 0, 0, 0, 1, 1, 1, 0, 0, 1, 1, 0, 0, 0, 0, 0, 0, 0, 0, 2, 3, 1, 1, 1, 0, 0, 1, 0, 0, 0, 0, 1, 0, 0, 0, 1, 1, 0, 1, 0, 1, 1, 0, 0, 0, 0, 0, 1, 0, 1, 1, 0], [7]]
def hg_o : List (List Nat) := [[1, 2, 4, 5, 6, 7, 8, 13, 14, 17, 22, 0, 0, 0, 0, 0, 0, 0], [0, 0, 0], [3, 0, 0, 0, 0, 0], [0, 0], [0, 0], [1, 2, 4, 0, 22, 0, 0, 0, 0, 0, 0], [0, 0, 0, 0, 0, 0, 0, 0, 0, 0, 0], [5, 6, 0, 0, 0, 0], [6, 2, 1, 9, 10, 11, 12, 0, 0, 0, 0, 0, 0, 0, 0, 0], [0, 0], [0, 0, 0, 0, 0, 0, 0, 0], [0, 0, 0, 0, 0, 0], [0, 0], [0, 0, 0, 0, 0, 0, 0], [6, 8, 11, 1, 4, 13, 15, 16, 0, 0, 0, 0, 0, 0, 0, 0, 0, 0, 0], [6, 0], [6, 11, 0, 0, 0, 0, 0, 0, 0], [18, 19, 20, 0, 0, 0, 0, 0, 0], [0, 0, 0, 0, 0], [0], [18, 19, 21, 0, 0, 0, 0], [18, 0, 0, 0, 0], [0, 0], [0, 0, 0, 0, 0, 0, 0, 0, 0, 0, 0, 0, 0, 0, 0, 0, 0, 0, 0, 0, 0, 0, 0, 0, 0, 0, 0, 0, 0, 0, 0, 0, 0, 0, 0, 0, 0, 0, 0, 0, 0, 0, 0, 0, 0, 0, 0, 0, 0, 0, 0, 0, 0, 0, 0, 0, 0, 0, 0, 0, 0, 0, 0, 0, 0, 0, 0, 0, 0, 0, 0, 0, 0, 0, 0, 0, 0, 0, 0, 0, 0, 0, 0, 0, 0, 0, 0]]
def hg_a : List (Nat × Nat) := [(1, 0), (1, 1), (1, 2), (2, 1), (2, 2), (2, 3), (2, 5), (3, 0), (4, 0), (5, 3), (6, 0), (6, 1), (6, 2), (6, 3), (6, 4), (6, 5), (6, 6), (6, 7), (6, 8), (6, 9), (7, 3), (7, 4), (8, 7), (8, 8), (10, 0), (10, 1), (10, 2), (10, 3), (10, 5), (10, 6), (11, 0), (11, 1), (11, 2), (11, 4), (12, 0), (13, 0), (13, 2), (13, 4), (13, 5), (14, 8), (14, 9), (14, 10), (16, 2), (16, 3), (16, 4), (16, 5), (17, 3), (17, 5), (17, 7), (18, 1), (18, 2), (18, 3), (19, 0), (20, 3), (21, 1), (21, 2), (22, 0), (23, 0), (23, 1), (23, 2), (23, 3), (23, 5), (23, 7), (23, 11), (23, 12), (23, 13), (23, 14), (23, 18), (23, 19), (23, 20), (23, 21), (23, 22), (23, 23), (23, 24), (23, 25), (23, 26), (23, 27), (23, 31), (23, 32), (23, 33), (23, 39), (23, 40), (23, 41), (23, 44), (23, 45), (23, 54), (23, 55), (23, 56), (23, 57), (23, 58), (23, 61), (23, 66), (23, 70), (23, 71), (23, 73), (23, 75), (23, 76), (23, 82), (23, 84), (23, 85), (24, 0)]
def hc_G0 : hc_G := (24, fun o => hg_c.getD o 0, fun o => hg_n.getD o 0, fun o f => (hg_k.getD o []).getD f 0, fun o f => (hg_o.getD o []).getD f 0, hg_a)
theorem hc_G0_nd : hc_G0.2.2.2.2.2.Nodup := by decide +kernel
/-- the Strings of the class files: their bytes, their places -/
def hs_L : List (List Int32) := [[105, 110, 116], [99, 104, 97, 114], [118, 111, 105, 100], [101, 110, 117, 109], [105, 102], [101, 108, 115, 101], [119, 104, 105, 108, 101], [100, 111], [102, 111, 114], [115, 119, 105, 116, 99, 104], [99, 97, 115, 101], [100, 101, 102, 97, 117, 108, 116], [98, 114, 101, 97, 107], [99, 111, 110, 116, 105, 110, 117, 101], [114, 101, 116, 117, 114, 110], [108, 101, 110], [112, 117, 116], [115, 101, 110, 100], [114, 101, 99, 118], [109, 111, 114, 101], [115, 112, 97, 119, 110], [119, 97, 105, 116], [103, 101, 116], [115, 101, 116], [101, 110, 100], [108, 111, 97, 100], [115, 116, 111, 114, 101], [99, 111, 110, 116, 114, 111, 108], [115, 101, 116, 99, 111, 110, 116, 114, 111, 108], [104, 111, 115, 116], [105, 98], [118, 105], [118, 105, 105], [105, 105], [105, 105, 105], [118, 105, 97], [105, 107], [118, 107, 105], [105, 105, 105, 105], [105, 110, 116], [99, 104, 97, 114], [118, 111, 105, 100], [101, 110, 117, 109], [105, 102], [101, 108, 115, 101], [119, 104, 105, 108, 101], [100, 111], [102, 111, 114], [115, 119, 105, 116, 99, 104], [99, 97, 115, 101], [100, 101, 102, 97, 117, 108, 116], [98, 114, 101, 97, 107], [99, 111, 110, 116, 105, 110, 117, 101], [114, 101, 116, 117, 114, 110], [60, 60, 61], [62, 62, 61], [43, 61], [45, 61], [42, 61], [47, 61], [37, 61], [38, 61], [124, 61], [94, 61], [124, 124], [38, 38], [61, 61], [33, 61], [60, 61], [62, 61], [60, 60], [62, 62], [43, 43], [45, 45], [40], [41], [123], [125], [91], [93], [44], [59], [58], [63], [61], [124], [94], [38], [60], [62], [43], [45], [42], [47], [37], [33], [126], [108, 101, 110], [112, 117, 116], [115, 101, 110, 100], [114, 101, 99, 118], [109, 111, 114, 101], [115, 112, 97, 119, 110], [119, 97, 105, 116], [103, 101, 116], [115, 101, 116], [101, 110, 100], [108, 111, 97, 100], [115, 116, 111, 114, 101], [99, 111, 110, 116, 114, 111, 108], [115, 101, 116, 99, 111, 110, 116, 114, 111, 108], [104, 111, 115, 116], [105, 97], [118, 105], [118, 105, 105], [105, 105], [105, 105, 105], [118, 105, 115], [105, 107], [118, 107, 105], [105, 105, 105, 105], [109, 97, 105, 110], [124, 124], [38, 38], [61, 61], [33, 61], [60, 61], [62, 61], [60, 60], [62, 62], [43, 43], [45, 45], [43, 61], [45, 61], [42, 61], [47, 61], [37, 61], [60, 60, 61], [62, 62, 61], [38, 61], [124, 61], [94, 61], [109, 97, 105, 110]]
def hs_R : List (String × Nat × Nat × String) := [("HomeCompiler$Words", 11, 0, "int"), ("HomeCompiler$Words", 13, 1, "char"), ("HomeCompiler$Words", 15, 2, "void"), ("HomeCompiler$Words", 17, 3, "enum"), ("HomeCompiler$Words", 19, 4, "if"), ("HomeCompiler$Words", 21, 5, "else"), ("HomeCompiler$Words", 23, 6, "while"), ("HomeCompiler$Words", 25, 7, "do"), ("HomeCompiler$Words", 27, 8, "for"), ("HomeCompiler$Words", 29, 9, "switch"), ("HomeCompiler$Words", 31, 10, "case"), ("HomeCompiler$Words", 33, 11, "default"), ("HomeCompiler$Words", 35, 12, "break"), ("HomeCompiler$Words", 37, 13, "continue"), ("HomeCompiler$Words", 39, 14, "return"), ("HomeCompiler$Words", 47, 15, "len"), ("HomeCompiler$Words", 49, 16, "put"), ("HomeCompiler$Words", 51, 17, "send"), ("HomeCompiler$Words", 53, 18, "recv"), ("HomeCompiler$Words", 55, 19, "more"), ("HomeCompiler$Words", 57, 20, "spawn"), ("HomeCompiler$Words", 59, 21, "wait"), ("HomeCompiler$Words", 61, 22, "get"), ("HomeCompiler$Words", 63, 23, "set"), ("HomeCompiler$Words", 65, 24, "end"), ("HomeCompiler$Words", 67, 25, "load"), ("HomeCompiler$Words", 69, 26, "store"), ("HomeCompiler$Words", 71, 27, "control"), ("HomeCompiler$Words", 73, 28, "setcontrol"), ("HomeCompiler$Words", 75, 29, "host"), ("HomeCompiler$Words", 80, 30, "ib"), ("HomeCompiler$Words", 82, 31, "vi"), ("HomeCompiler$Words", 84, 32, "vii"), ("HomeCompiler$Words", 86, 33, "ii"), ("HomeCompiler$Words", 88, 34, "iii"), ("HomeCompiler$Words", 90, 35, "via"), ("HomeCompiler$Words", 92, 36, "ik"), ("HomeCompiler$Words", 94, 37, "vki"), ("HomeCompiler$Words", 96, 38, "iiii"), ("HomeCompilerModel", 9, 39, "int"), ("HomeCompilerModel", 11, 40, "char"), ("HomeCompilerModel", 13, 41, "void"), ("HomeCompilerModel", 15, 42, "enum"), ("HomeCompilerModel", 17, 43, "if"), ("HomeCompilerModel", 19, 44, "else"), ("HomeCompilerModel", 21, 45, "while"), ("HomeCompilerModel", 23, 46, "do"), ("HomeCompilerModel", 25, 47, "for"), ("HomeCompilerModel", 27, 48, "switch"), ("HomeCompilerModel", 29, 49, "case"), ("HomeCompilerModel", 31, 50, "default"), ("HomeCompilerModel", 33, 51, "break"), ("HomeCompilerModel", 35, 52, "continue"), ("HomeCompilerModel", 37, 53, "return"), ("HomeCompilerModel", 45, 54, "<<="), ("HomeCompilerModel", 47, 55, ">>="), ("HomeCompilerModel", 49, 56, "+="), ("HomeCompilerModel", 51, 57, "-="), ("HomeCompilerModel", 53, 58, "*="), ("HomeCompilerModel", 55, 59, "/="), ("HomeCompilerModel", 57, 60, "%="), ("HomeCompilerModel", 59, 61, "&="), ("HomeCompilerModel", 61, 62, "|="), ("HomeCompilerModel", 63, 63, "^="), ("HomeCompilerModel", 65, 64, "||"), ("HomeCompilerModel", 67, 65, "&&"), ("HomeCompilerModel", 69, 66, "=="), ("HomeCompilerModel", 71, 67, "!="), ("HomeCompilerModel", 73, 68, "<="), ("HomeCompilerModel", 75, 69, ">="), ("HomeCompilerModel", 77, 70, "<<"), ("HomeCompilerModel", 79, 71, ">>"), ("HomeCompilerModel", 81, 72, "++"), ("HomeCompilerModel", 83, 73, "--"), ("HomeCompilerModel", 85, 74, "("), ("HomeCompilerModel", 87, 75, ")"), ("HomeCompilerModel", 89, 76, "{"), ("HomeCompilerModel", 91, 77, "}"), ("HomeCompilerModel", 93, 78, "["), ("HomeCompilerModel", 95, 79, "]"), ("HomeCompilerModel", 97, 80, ","), ("HomeCompilerModel", 99, 81, ";"), ("HomeCompilerModel", 101, 82, ":"), ("HomeCompilerModel", 103, 83, "?"), ("HomeCompilerModel", 105, 84, "="), ("HomeCompilerModel", 107, 85, "|"), ("HomeCompilerModel", 109, 86, "^"), ("HomeCompilerModel", 111, 87, "&"), ("HomeCompilerModel", 113, 88, "<"), ("HomeCompilerModel", 115, 89, ">"), ("HomeCompilerModel", 117, 90, "+"), ("HomeCompilerModel", 119, 91, "-"), ("HomeCompilerModel", 121, 92, "*"), ("HomeCompilerModel", 123, 93, "/"), ("HomeCompilerModel", 125, 94, "%"), ("HomeCompilerModel", 127, 95, "!"), ("HomeCompilerModel", 129, 96, "~"), ("HomeCompilerModel", 134, 97, "len"), ("HomeCompilerModel", 136, 98, "put"), ("HomeCompilerModel", 138, 99, "send"), ("HomeCompilerModel", 140, 100, "recv"), ("HomeCompilerModel", 142, 101, "more"), ("HomeCompilerModel", 144, 102, "spawn"), ("HomeCompilerModel", 146, 103, "wait"), ("HomeCompilerModel", 148, 104, "get"), ("HomeCompilerModel", 150, 105, "set"), ("HomeCompilerModel", 152, 106, "end"), ("HomeCompilerModel", 154, 107, "load"), ("HomeCompilerModel", 156, 108, "store"), ("HomeCompilerModel", 158, 109, "control"), ("HomeCompilerModel", 160, 110, "setcontrol"), ("HomeCompilerModel", 162, 111, "host"), ("HomeCompilerModel", 167, 112, "ia"), ("HomeCompilerModel", 169, 113, "vi"), ("HomeCompilerModel", 171, 114, "vii"), ("HomeCompilerModel", 173, 115, "ii"), ("HomeCompilerModel", 175, 116, "iii"), ("HomeCompilerModel", 177, 117, "vis"), ("HomeCompilerModel", 179, 118, "ik"), ("HomeCompilerModel", 181, 119, "vki"), ("HomeCompilerModel", 183, 120, "iiii"), ("HomeCompilerModel", 719, 121, "main"), ("HomeCompiler$Scanner", 11, 122, "||"), ("HomeCompiler$Scanner", 13, 123, "&&"), ("HomeCompiler$Scanner", 15, 124, "=="), ("HomeCompiler$Scanner", 17, 125, "!="), ("HomeCompiler$Scanner", 19, 126, "<="), ("HomeCompiler$Scanner", 21, 127, ">="), ("HomeCompiler$Scanner", 23, 128, "<<"), ("HomeCompiler$Scanner", 25, 129, ">>"), ("HomeCompiler$Scanner", 27, 130, "++"), ("HomeCompiler$Scanner", 29, 131, "--"), ("HomeCompiler$Scanner", 31, 132, "+="), ("HomeCompiler$Scanner", 33, 133, "-="), ("HomeCompiler$Scanner", 35, 134, "*="), ("HomeCompiler$Scanner", 37, 135, "/="), ("HomeCompiler$Scanner", 39, 136, "%="), ("HomeCompiler$Scanner", 41, 137, "<<="), ("HomeCompiler$Scanner", 43, 138, ">>="), ("HomeCompiler$Scanner", 45, 139, "&="), ("HomeCompiler$Scanner", 47, 140, "|="), ("HomeCompiler$Scanner", 49, 141, "^="), ("HomeCompiler$Checker", 174, 142, "main")]
/-- the Strings: each an object with its bytes; every constant's address -/
def hc_Z (sL : List (List Int32)) (sR : List (String × Nat × Nat × String)) (E : hc_E) (A : Nat → Prop) (U : State) (H : Heap) : Prop :=
  (∀ i : Nat, i < sL.length → va_O "java/lang/String" (E.2.2.2.1 i) A U H ∧ va_OF "java/lang/String" "coder" "B" (.int 0) (E.2.2.2.1 i) A U H ∧ va_OF "java/lang/String" "value" "[B" (.ref (E.2.2.2.2 i)) (E.2.2.2.1 i) A U H ∧ va_T .byte (E.2.2.2.2 i) (sL.getD i []).length (fun j => .int ((sL.getD i []).getD j 0)) A U H) ∧ ∀ q ∈ sR, vk_R q.1 q.2.1 q.2.2.2 (E.2.2.2.1 q.2.2.1) U
theorem hc_Z.step {sL : List (List Int32)} {sR : List (String × Nat × Nat × String)} {E : hc_E} {A : Nat → Prop} {u U : State} {H : Heap} (h : hc_Z sL sR E A u u.heap) (hW : u.WarmedH U.vm) (hq : ∀ a : Nat, a < u.heap.size → ¬ A a → H[a]? = u.heap[a]?) : hc_Z sL sR E A U H :=
  ⟨fun i hi => ⟨(va_O.moved hW.alike (h.1 i hi).1).kept hq, (va_OF.moved hW.alike (h.1 i hi).2.1).kept hq, (va_OF.moved hW.alike (h.1 i hi).2.2.1).kept hq, (va_T.moved hW.alike (h.1 i hi).2.2.2).kept hq⟩, fun q hq => vk_R.warm hW (h.2 q hq)⟩
def hc_nf : List (String × Nat × String × String × String) := [("HomeCompiler", 273, "HomeCompiler$Hart", "x", "[I"), ("HomeCompiler", 208, "HomeCompiler$Host", "ram", "LHomeCompiler$Ram;"), ("HomeCompiler", 269, "HomeCompiler$Host", "hart", "LHomeCompiler$Hart;"), ("HomeCompiler", 287, "HomeCompiler$Host", "paper", "[I"), ("HomeCompiler", 136, "HomeCompiler$Host", "written", "I"), ("HomeCompiler", 224, "HomeCompiler$Host", "input", "[I"), ("HomeCompiler", 221, "HomeCompiler$Host", "inputs", "I"), ("HomeCompiler", 290, "HomeCompiler$Host", "disk", "[I"), ("HomeCompiler", 139, "HomeCompiler$Host", "value", "I"), ("HomeCompiler$Host", 54, "HomeCompiler$Hart", "x", "[I"), ("HomeCompiler$Host", 60, "HomeCompiler$Hart", "pc", "I"), ("HomeCompiler$Host", 63, "HomeCompiler$Hart", "mode", "I")]
/-- a static field that holds a reference -/
def hc_LS (O f d : String) (A : Nat → Prop) (U : State) (H : Heap) : Prop := ∃ (c : ClassId) (k : Class) (i : Nat) (fd : Field) (a : Nat) (cell : Cell) (w : Value), U.vm.findClass O = some c ∧ U.fieldFound? O f d = some (c, k, i, fd) ∧ fd.isStatic = true ∧ k.statics = some a ∧ k.staticTypes[fd.slot]? = some fd.type ∧ H[a]? = some cell ∧ cell.vm.isStatics = true ∧ cell.cls = c ∧ fd.slot < cell.slots.size ∧ cell.slots[fd.slot]? = some w ∧ ¬ A a ∧ (w = .null ∨ ∃ t, w = .ref t)
theorem hc_LS.step {O f d : String} {A : Nat → Prop} {u U : State} {H : Heap} (h : hc_LS O f d A u u.heap) (hvm : u.vm.Alike U.vm) (hq : ∀ a : Nat, a < u.heap.size → ¬ A a → H[a]? = u.heap[a]?) : hc_LS O f d A U H := by
  obtain ⟨c, k, i, fd, a, cell, t, h1, h2, h3, h4, h5, h6, h7, h8, h9, h10, h11, h12⟩ := h
  obtain ⟨k', hi', he⟩ := State.fieldFound?_setVm hvm h2
  exact ⟨c, k', i, fd, a, cell, t, by rw [hvm.findClass]; exact h1, hi', h3, by rw [he]; exact h4, by rw [he]; exact h5, by rw [hq a (Array.getElem?_eq_some_iff.mp h6).1 h11]; exact h6, h7, h8, h9, h10, h11, h12⟩
theorem hc_LS.lays {O f d : String} {A : Nat → Prop} {U : State} {args : Array Value} (h : hc_LS O f d A U U.heap) : (Cond.laysStatic O f d).before args U = true := by
  obtain ⟨c, k, i, fd, a, cell, t, h1, h2, h3, h4, h5, h6, h7, h8, h9, h10, h11, h12⟩ := h
  simp [Cond.before, Cond.holds, Cond.value, h1, h2, h3, h4, h5, h6, h7, h8, h9]
theorem hc_LS.isRef {O f d : String} {A : Nat → Prop} {U : State} {args : Array Value} (h : hc_LS O f d A U U.heap) : (Cond.isRef (.static O f d)).before args U = true := by
  obtain ⟨c, k, i, fd, a, cell, t, h1, h2, h3, h4, h5, h6, h7, h8, h9, h10, h11, h12⟩ := h
  have e : (Term.static O f d).eval args U none [] U = some t := by
    simp [Term.eval, State.fieldNamed?, h2, h3, h4, h6, h7, h10]
  rcases h12 with rfl | ⟨q, rfl⟩
  · simp [Cond.before, Cond.holds, Cond.value, e]
  · simp [Cond.before, Cond.holds, Cond.value, e]
def hc_dw : List MethodName := [⟨"java/lang/Throwable", "<init>", "()V"⟩, ⟨"java/lang/Throwable", "<init>", "(Ljava/lang/String;)V"⟩, ⟨"java/lang/Exception", "<init>", "()V"⟩, ⟨"java/lang/Exception", "<init>", "(Ljava/lang/String;)V"⟩, ⟨"java/lang/IndexOutOfBoundsException", "<init>", "()V"⟩, ⟨"java/lang/IndexOutOfBoundsException", "<init>", "(Ljava/lang/String;)V"⟩, ⟨"java/lang/RuntimeException", "<init>", "()V"⟩, ⟨"java/lang/RuntimeException", "<init>", "(Ljava/lang/String;)V"⟩]
/-- the kinds of exceptions are apart -/
def hc_nc (U : State) : Prop := ∀ j k : Nat, hc_xn j ≠ hc_xn k → ∀ c1 c2 : ClassId, U.vm.findClass (hc_xn j) = some c1 → U.vm.findClass (hc_xn k) = some c2 → U.vm.assignable c1 c2 = false
def hc_J0 (E : hc_E) (A : Nat → Prop) (U : State) (H : Heap) : Prop := hc_Z hs_L hs_R E A U H ∧ (∀ q ∈ hc_nf, va_Nw (.fieldLinkNest q.1 q.2.1 q.2.2.1 q.2.2.2.1 q.2.2.2.2 "HomeCompiler") U) ∧
  va_Z "java/lang/String" "COMPACT_STRINGS" "Z" (.int 1) A U H ∧ va_Zq "jdk/internal/util/Preconditions" "SIOOBE_FORMATTER" "Ljava/util/function/BiFunction;" A U H ∧
  hc_LS "java/lang/Throwable" "UNASSIGNED_STACK" "[Ljava/lang/StackTraceElement;" A U H ∧ hc_LS "java/lang/Throwable" "SUPPRESSED_SENTINEL" "Ljava/util/List;" A U H ∧
  (∀ k : Nat, va_Nw (.castable (hc_xn k) (hc_xn k)) U) ∧ (∀ w ∈ hc_dw, va_Nw (.declares w) U) ∧ hc_nc U
theorem hc_J0_st : hc_St1 (hc_cl, hc_G0, hc_J0) := fun E A u U H h hW hq => ⟨h.1.step hW hq, fun q hq => va_Nw.warmF hW (h.2.1 q hq), (va_Z.moved hW.alike h.2.2.1).kept hq, (va_Zq.moved hW.alike h.2.2.2.1).kept hq, h.2.2.2.2.1.step hW.alike hq, h.2.2.2.2.2.1.step hW.alike hq, fun k => va_Nw.warmC hW (h.2.2.2.2.2.2.1 k), fun w hw => va_Nw.warmD hW (h.2.2.2.2.2.2.2.1 w hw), fun j k hjk c1 c2 h1 h2 => by rw [hW.alike.assignable]; exact h.2.2.2.2.2.2.2.2 j k hjk c1 c2 (by rw [← hW.alike.findClass]; exact h1) (by rw [← hW.alike.findClass]; exact h2)⟩

abbrev hc_V0 : hc_V := (hc_cl, hc_G0, hc_J0)
theorem hc_V0_st : hc_St1 hc_V0 := hc_J0_st
theorem F0_0 : hc_F hc_V0 RX1 TX1 18 0 0 5 := ⟨in_X1, rfl, rfl, by decide, rfl, by decide, rfl⟩ -- HomeCompiler.words
theorem F0_1 : hc_F hc_V0 RX1 TX1 18 0 1 5 := ⟨in_X1, rfl, rfl, by decide, rfl, by decide, rfl⟩ -- HomeCompiler.names
theorem F0_2 : hc_F hc_V0 RX1 TX1 18 0 2 5 := ⟨in_X1, rfl, rfl, by decide, rfl, by decide, rfl⟩ -- HomeCompiler.strings
theorem F0_3 : hc_F hc_V0 RX1 TX1 18 0 3 5 := ⟨in_X1, rfl, rfl, by decide, rfl, by decide, rfl⟩ -- HomeCompiler.scan
theorem F0_4 : hc_F hc_V0 RX1 TX1 18 0 4 5 := ⟨in_X1, rfl, rfl, by decide, rfl, by decide, rfl⟩ -- HomeCompiler.nodes
theorem F0_5 : hc_F hc_V0 RX1 TX1 18 0 5 5 := ⟨in_X1, rfl, rfl, by decide, rfl, by decide, rfl⟩ -- HomeCompiler.reader
theorem F0_6 : hc_F hc_V0 RX1 TX1 18 0 6 5 := ⟨in_X1, rfl, rfl, by decide, rfl, by decide, rfl⟩ -- HomeCompiler.checker
theorem F0_7 : hc_F hc_V0 RX1 TX1 18 0 7 5 := ⟨in_X1, rfl, rfl, by decide, rfl, by decide, rfl⟩ -- HomeCompiler.emitter
theorem F0_8 : hc_F hc_V0 RX1 TX1 18 0 8 5 := ⟨in_X1, rfl, rfl, by decide, rfl, by decide, rfl⟩ -- HomeCompiler.generator
theorem F0_9 : hc_F hc_V0 RX1 TX1 18 0 9 5 := ⟨in_X1, rfl, rfl, by decide, rfl, by decide, rfl⟩ -- HomeCompiler.host
theorem F0_10 : hc_F hc_V0 RX1 TX1 18 0 10 5 := ⟨in_X1, rfl, rfl, by decide, rfl, by decide, rfl⟩ -- HomeCompiler.tape
theorem F0_11 : hc_F hc_V0 RX1 TX1 18 0 11 0 := ⟨in_X1, rfl, rfl, by decide, rfl, by decide, rfl⟩ -- HomeCompiler.text
theorem F0_12 : hc_F hc_V0 RX1 TX1 18 0 12 0 := ⟨in_X1, rfl, rfl, by decide, rfl, by decide, rfl⟩ -- HomeCompiler.place
theorem F0_13 : hc_F hc_V0 RX1 TX1 18 0 13 0 := ⟨in_X1, rfl, rfl, by decide, rfl, by decide, rfl⟩ -- HomeCompiler.start
theorem F0_14 : hc_F hc_V0 RX1 TX1 18 0 14 0 := ⟨in_X1, rfl, rfl, by decide, rfl, by decide, rfl⟩ -- HomeCompiler.variableWords
theorem F0_15 : hc_F hc_V0 RX1 TX1 18 0 15 0 := ⟨in_X1, rfl, rfl, by decide, rfl, by decide, rfl⟩ -- HomeCompiler.ran
theorem F0_16 : hc_F hc_V0 RX1 TX1 18 0 16 0 := ⟨in_X1, rfl, rfl, by decide, rfl, by decide, rfl⟩ -- HomeCompiler.last
theorem F0_17 : hc_F hc_V0 RX1 TX1 18 0 17 0 := ⟨in_X1, rfl, rfl, by decide, rfl, by decide, rfl⟩ -- HomeCompiler.life
theorem F1_0 : hc_F hc_V0 RX2 TX2 3 1 0 4 := ⟨in_X2, rfl, rfl, by decide, rfl, by decide, rfl⟩ -- Words.all
theorem F1_1 : hc_F hc_V0 RX2 TX2 3 1 1 4 := ⟨in_X2, rfl, rfl, by decide, rfl, by decide, rfl⟩ -- Words.given
theorem F1_2 : hc_F hc_V0 RX2 TX2 3 1 2 4 := ⟨in_X2, rfl, rfl, by decide, rfl, by decide, rfl⟩ -- Words.takes
theorem F2_0 : hc_F hc_V0 RX3 TX3 6 2 0 5 := ⟨in_X3, rfl, rfl, by decide, rfl, by decide, rfl⟩ -- Names.letters
theorem F2_1 : hc_F hc_V0 RX3 TX3 6 2 1 1 := ⟨in_X3, rfl, rfl, by decide, rfl, by decide, rfl⟩ -- Names.from
theorem F2_2 : hc_F hc_V0 RX3 TX3 6 2 2 1 := ⟨in_X3, rfl, rfl, by decide, rfl, by decide, rfl⟩ -- Names.next
theorem F2_3 : hc_F hc_V0 RX3 TX3 6 2 3 1 := ⟨in_X3, rfl, rfl, by decide, rfl, by decide, rfl⟩ -- Names.hashes
theorem F2_4 : hc_F hc_V0 RX3 TX3 6 2 4 0 := ⟨in_X3, rfl, rfl, by decide, rfl, by decide, rfl⟩ -- Names.count
theorem F2_5 : hc_F hc_V0 RX3 TX3 6 2 5 1 := ⟨in_X3, rfl, rfl, by decide, rfl, by decide, rfl⟩ -- Names.heads
theorem F3_0 : hc_F hc_V0 RX4 TX4 2 3 0 2 := ⟨in_X4, rfl, rfl, by decide, rfl, by decide, rfl⟩ -- letters.row
theorem F3_1 : hc_F hc_V0 RX4 TX4 2 3 1 0 := ⟨in_X4, rfl, rfl, by decide, rfl, by decide, rfl⟩ -- letters.size
theorem F4_0 : hc_F hc_V0 RX4 TX4 2 4 0 2 := ⟨in_X4, rfl, rfl, by decide, rfl, by decide, rfl⟩ -- strings.row
theorem F4_1 : hc_F hc_V0 RX4 TX4 2 4 1 0 := ⟨in_X4, rfl, rfl, by decide, rfl, by decide, rfl⟩ -- strings.size
theorem F5_0 : hc_F hc_V0 RX5 TX5 11 5 0 5 := ⟨in_X5, rfl, rfl, by decide, rfl, by decide, rfl⟩ -- Scanner.words
theorem F5_1 : hc_F hc_V0 RX5 TX5 11 5 1 5 := ⟨in_X5, rfl, rfl, by decide, rfl, by decide, rfl⟩ -- Scanner.names
theorem F5_2 : hc_F hc_V0 RX5 TX5 11 5 2 5 := ⟨in_X5, rfl, rfl, by decide, rfl, by decide, rfl⟩ -- Scanner.strings
theorem F5_3 : hc_F hc_V0 RX5 TX5 11 5 3 4 := ⟨in_X5, rfl, rfl, by decide, rfl, by decide, rfl⟩ -- Scanner.marks
theorem F5_4 : hc_F hc_V0 RX5 TX5 11 5 4 6 := ⟨in_X5, rfl, rfl, by decide, rfl, by decide, rfl⟩ -- Scanner.text
theorem F5_5 : hc_F hc_V0 RX5 TX5 11 5 5 0 := ⟨in_X5, rfl, rfl, by decide, rfl, by decide, rfl⟩ -- Scanner.at
theorem F5_6 : hc_F hc_V0 RX5 TX5 11 5 6 0 := ⟨in_X5, rfl, rfl, by decide, rfl, by decide, rfl⟩ -- Scanner.token
theorem F5_7 : hc_F hc_V0 RX5 TX5 11 5 7 0 := ⟨in_X5, rfl, rfl, by decide, rfl, by decide, rfl⟩ -- Scanner.start
theorem F5_8 : hc_F hc_V0 RX5 TX5 11 5 8 0 := ⟨in_X5, rfl, rfl, by decide, rfl, by decide, rfl⟩ -- Scanner.number
theorem F5_9 : hc_F hc_V0 RX5 TX5 11 5 9 0 := ⟨in_X5, rfl, rfl, by decide, rfl, by decide, rfl⟩ -- Scanner.name
theorem F5_10 : hc_F hc_V0 RX5 TX5 11 5 10 0 := ⟨in_X5, rfl, rfl, by decide, rfl, by decide, rfl⟩ -- Scanner.string
theorem F6_0 : hc_F hc_V0 RX6 TX6 11 6 0 1 := ⟨in_X6, rfl, rfl, by decide, rfl, by decide, rfl⟩ -- Nodes.kinds
theorem F6_1 : hc_F hc_V0 RX6 TX6 11 6 1 1 := ⟨in_X6, rfl, rfl, by decide, rfl, by decide, rfl⟩ -- Nodes.ops
theorem F6_2 : hc_F hc_V0 RX6 TX6 11 6 2 1 := ⟨in_X6, rfl, rfl, by decide, rfl, by decide, rfl⟩ -- Nodes.values
theorem F6_3 : hc_F hc_V0 RX6 TX6 11 6 3 1 := ⟨in_X6, rfl, rfl, by decide, rfl, by decide, rfl⟩ -- Nodes.extras
theorem F6_4 : hc_F hc_V0 RX6 TX6 11 6 4 1 := ⟨in_X6, rfl, rfl, by decide, rfl, by decide, rfl⟩ -- Nodes.places
theorem F6_5 : hc_F hc_V0 RX6 TX6 11 6 5 1 := ⟨in_X6, rfl, rfl, by decide, rfl, by decide, rfl⟩ -- Nodes.numbers
theorem F6_6 : hc_F hc_V0 RX6 TX6 11 6 6 1 := ⟨in_X6, rfl, rfl, by decide, rfl, by decide, rfl⟩ -- Nodes.depths
theorem F6_7 : hc_F hc_V0 RX6 TX6 11 6 7 1 := ⟨in_X6, rfl, rfl, by decide, rfl, by decide, rfl⟩ -- Nodes.firsts
theorem F6_8 : hc_F hc_V0 RX6 TX6 11 6 8 1 := ⟨in_X6, rfl, rfl, by decide, rfl, by decide, rfl⟩ -- Nodes.lasts
theorem F6_9 : hc_F hc_V0 RX6 TX6 11 6 9 1 := ⟨in_X6, rfl, rfl, by decide, rfl, by decide, rfl⟩ -- Nodes.nexts
theorem F6_10 : hc_F hc_V0 RX6 TX6 11 6 10 0 := ⟨in_X6, rfl, rfl, by decide, rfl, by decide, rfl⟩ -- Nodes.count
theorem F7_0 : hc_F hc_V0 RX7 TX7 6 7 0 5 := ⟨in_X7, rfl, rfl, by decide, rfl, by decide, rfl⟩ -- Reader.scan
theorem F7_1 : hc_F hc_V0 RX7 TX7 6 7 1 5 := ⟨in_X7, rfl, rfl, by decide, rfl, by decide, rfl⟩ -- Reader.nodes
theorem F7_2 : hc_F hc_V0 RX7 TX7 6 7 2 0 := ⟨in_X7, rfl, rfl, by decide, rfl, by decide, rfl⟩ -- Reader.open
theorem F7_3 : hc_F hc_V0 RX7 TX7 6 7 3 1 := ⟨in_X7, rfl, rfl, by decide, rfl, by decide, rfl⟩ -- Reader.operands
theorem F7_4 : hc_F hc_V0 RX7 TX7 6 7 4 1 := ⟨in_X7, rfl, rfl, by decide, rfl, by decide, rfl⟩ -- Reader.operators
theorem F7_5 : hc_F hc_V0 RX7 TX7 6 7 5 0 := ⟨in_X7, rfl, rfl, by decide, rfl, by decide, rfl⟩ -- Reader.waiting
theorem F8_0 : hc_F hc_V0 RX8 TX8 16 8 0 5 := ⟨in_X8, rfl, rfl, by decide, rfl, by decide, rfl⟩ -- Checker.nodes
theorem F8_1 : hc_F hc_V0 RX8 TX8 16 8 1 5 := ⟨in_X8, rfl, rfl, by decide, rfl, by decide, rfl⟩ -- Checker.names
theorem F8_2 : hc_F hc_V0 RX8 TX8 16 8 2 5 := ⟨in_X8, rfl, rfl, by decide, rfl, by decide, rfl⟩ -- Checker.words
theorem F8_3 : hc_F hc_V0 RX8 TX8 16 8 3 5 := ⟨in_X8, rfl, rfl, by decide, rfl, by decide, rfl⟩ -- Checker.wrong
theorem F8_4 : hc_F hc_V0 RX8 TX8 16 8 4 5 := ⟨in_X8, rfl, rfl, by decide, rfl, by decide, rfl⟩ -- Checker.symbols
theorem F8_5 : hc_F hc_V0 RX8 TX8 16 8 5 5 := ⟨in_X8, rfl, rfl, by decide, rfl, by decide, rfl⟩ -- Checker.variables
theorem F8_6 : hc_F hc_V0 RX8 TX8 16 8 6 5 := ⟨in_X8, rfl, rfl, by decide, rfl, by decide, rfl⟩ -- Checker.given
theorem F8_7 : hc_F hc_V0 RX8 TX8 16 8 7 1 := ⟨in_X8, rfl, rfl, by decide, rfl, by decide, rfl⟩ -- Checker.functions
theorem F8_8 : hc_F hc_V0 RX8 TX8 16 8 8 1 := ⟨in_X8, rfl, rfl, by decide, rfl, by decide, rfl⟩ -- Checker.heights
theorem F8_9 : hc_F hc_V0 RX8 TX8 16 8 9 0 := ⟨in_X8, rfl, rfl, by decide, rfl, by decide, rfl⟩ -- Checker.count
theorem F8_10 : hc_F hc_V0 RX8 TX8 16 8 10 0 := ⟨in_X8, rfl, rfl, by decide, rfl, by decide, rfl⟩ -- Checker.existing
theorem F8_11 : hc_F hc_V0 RX8 TX8 16 8 11 0 := ⟨in_X8, rfl, rfl, by decide, rfl, by decide, rfl⟩ -- Checker.function
theorem F8_12 : hc_F hc_V0 RX8 TX8 16 8 12 0 := ⟨in_X8, rfl, rfl, by decide, rfl, by decide, rfl⟩ -- Checker.loops
theorem F8_13 : hc_F hc_V0 RX8 TX8 16 8 13 0 := ⟨in_X8, rfl, rfl, by decide, rfl, by decide, rfl⟩ -- Checker.breaks
theorem F8_14 : hc_F hc_V0 RX8 TX8 16 8 14 0 := ⟨in_X8, rfl, rfl, by decide, rfl, by decide, rfl⟩ -- Checker.zero
theorem F8_15 : hc_F hc_V0 RX8 TX8 16 8 15 0 := ⟨in_X8, rfl, rfl, by decide, rfl, by decide, rfl⟩ -- Checker.value
theorem F9_0 : hc_F hc_V0 RX9 TX9 2 9 0 0 := ⟨in_X9, rfl, rfl, by decide, rfl, by decide, rfl⟩ -- Wrong.number
theorem F9_1 : hc_F hc_V0 RX9 TX9 2 9 1 0 := ⟨in_X9, rfl, rfl, by decide, rfl, by decide, rfl⟩ -- Wrong.place
theorem F10_0 : hc_F hc_V0 RX10 TX10 8 10 0 1 := ⟨in_X10, rfl, rfl, by decide, rfl, by decide, rfl⟩ -- Symbols.names
theorem F10_1 : hc_F hc_V0 RX10 TX10 8 10 1 1 := ⟨in_X10, rfl, rfl, by decide, rfl, by decide, rfl⟩ -- Symbols.sorts
theorem F10_2 : hc_F hc_V0 RX10 TX10 8 10 2 1 := ⟨in_X10, rfl, rfl, by decide, rfl, by decide, rfl⟩ -- Symbols.values
theorem F10_3 : hc_F hc_V0 RX10 TX10 8 10 3 1 := ⟨in_X10, rfl, rfl, by decide, rfl, by decide, rfl⟩ -- Symbols.before
theorem F10_4 : hc_F hc_V0 RX10 TX10 8 10 4 0 := ⟨in_X10, rfl, rfl, by decide, rfl, by decide, rfl⟩ -- Symbols.count
theorem F10_5 : hc_F hc_V0 RX10 TX10 8 10 5 1 := ⟨in_X10, rfl, rfl, by decide, rfl, by decide, rfl⟩ -- Symbols.lasts
theorem F10_6 : hc_F hc_V0 RX10 TX10 8 10 6 1 := ⟨in_X10, rfl, rfl, by decide, rfl, by decide, rfl⟩ -- Symbols.begins
theorem F10_7 : hc_F hc_V0 RX10 TX10 8 10 7 0 := ⟨in_X10, rfl, rfl, by decide, rfl, by decide, rfl⟩ -- Symbols.deep
theorem F11_0 : hc_F hc_V0 RX11 TX11 6 11 0 1 := ⟨in_X11, rfl, rfl, by decide, rfl, by decide, rfl⟩ -- Variables.types
theorem F11_1 : hc_F hc_V0 RX11 TX11 6 11 1 1 := ⟨in_X11, rfl, rfl, by decide, rfl, by decide, rfl⟩ -- Variables.sizes
theorem F11_2 : hc_F hc_V0 RX11 TX11 6 11 2 1 := ⟨in_X11, rfl, rfl, by decide, rfl, by decide, rfl⟩ -- Variables.owners
theorem F11_3 : hc_F hc_V0 RX11 TX11 6 11 3 0 := ⟨in_X11, rfl, rfl, by decide, rfl, by decide, rfl⟩ -- Variables.count
theorem F11_4 : hc_F hc_V0 RX11 TX11 6 11 4 1 := ⟨in_X11, rfl, rfl, by decide, rfl, by decide, rfl⟩ -- Variables.sums
theorem F11_5 : hc_F hc_V0 RX11 TX11 6 11 5 0 := ⟨in_X11, rfl, rfl, by decide, rfl, by decide, rfl⟩ -- Variables.textWords
theorem F12_0 : hc_F hc_V0 RX4 TX4 2 12 0 2 := ⟨in_X4, rfl, rfl, by decide, rfl, by decide, rfl⟩ -- given.row
theorem F12_1 : hc_F hc_V0 RX4 TX4 2 12 1 0 := ⟨in_X4, rfl, rfl, by decide, rfl, by decide, rfl⟩ -- given.size
theorem F13_0 : hc_F hc_V0 RX12 TX12 7 13 0 1 := ⟨in_X12, rfl, rfl, by decide, rfl, by decide, rfl⟩ -- Emitter.words
theorem F13_1 : hc_F hc_V0 RX12 TX12 7 13 1 0 := ⟨in_X12, rfl, rfl, by decide, rfl, by decide, rfl⟩ -- Emitter.count
theorem F13_2 : hc_F hc_V0 RX12 TX12 7 13 2 1 := ⟨in_X12, rfl, rfl, by decide, rfl, by decide, rfl⟩ -- Emitter.labels
theorem F13_3 : hc_F hc_V0 RX12 TX12 7 13 3 0 := ⟨in_X12, rfl, rfl, by decide, rfl, by decide, rfl⟩ -- Emitter.labelCount
theorem F13_4 : hc_F hc_V0 RX12 TX12 7 13 4 1 := ⟨in_X12, rfl, rfl, by decide, rfl, by decide, rfl⟩ -- Emitter.jumps
theorem F13_5 : hc_F hc_V0 RX12 TX12 7 13 5 1 := ⟨in_X12, rfl, rfl, by decide, rfl, by decide, rfl⟩ -- Emitter.targets
theorem F13_6 : hc_F hc_V0 RX12 TX12 7 13 6 0 := ⟨in_X12, rfl, rfl, by decide, rfl, by decide, rfl⟩ -- Emitter.jumpCount
theorem F14_0 : hc_F hc_V0 RX13 TX13 19 14 0 5 := ⟨in_X13, rfl, rfl, by decide, rfl, by decide, rfl⟩ -- Generator.nodes
theorem F14_1 : hc_F hc_V0 RX13 TX13 19 14 1 5 := ⟨in_X13, rfl, rfl, by decide, rfl, by decide, rfl⟩ -- Generator.checker
theorem F14_2 : hc_F hc_V0 RX13 TX13 19 14 2 5 := ⟨in_X13, rfl, rfl, by decide, rfl, by decide, rfl⟩ -- Generator.variables
theorem F14_3 : hc_F hc_V0 RX13 TX13 19 14 3 5 := ⟨in_X13, rfl, rfl, by decide, rfl, by decide, rfl⟩ -- Generator.words
theorem F14_4 : hc_F hc_V0 RX13 TX13 19 14 4 5 := ⟨in_X13, rfl, rfl, by decide, rfl, by decide, rfl⟩ -- Generator.strings
theorem F14_5 : hc_F hc_V0 RX13 TX13 19 14 5 5 := ⟨in_X13, rfl, rfl, by decide, rfl, by decide, rfl⟩ -- Generator.out
theorem F14_6 : hc_F hc_V0 RX13 TX13 19 14 6 5 := ⟨in_X13, rfl, rfl, by decide, rfl, by decide, rfl⟩ -- Generator.folder
theorem F14_7 : hc_F hc_V0 RX13 TX13 19 14 7 5 := ⟨in_X13, rfl, rfl, by decide, rfl, by decide, rfl⟩ -- Generator.homes
theorem F14_8 : hc_F hc_V0 RX13 TX13 19 14 8 1 := ⟨in_X13, rfl, rfl, by decide, rfl, by decide, rfl⟩ -- Generator.entries
theorem F14_9 : hc_F hc_V0 RX13 TX13 19 14 9 1 := ⟨in_X13, rfl, rfl, by decide, rfl, by decide, rfl⟩ -- Generator.globals
theorem F14_10 : hc_F hc_V0 RX13 TX13 19 14 10 1 := ⟨in_X13, rfl, rfl, by decide, rfl, by decide, rfl⟩ -- Generator.ends
theorem F14_11 : hc_F hc_V0 RX13 TX13 19 14 11 0 := ⟨in_X13, rfl, rfl, by decide, rfl, by decide, rfl⟩ -- Generator.most
theorem F14_12 : hc_F hc_V0 RX13 TX13 19 14 12 0 := ⟨in_X13, rfl, rfl, by decide, rfl, by decide, rfl⟩ -- Generator.leave
theorem F14_13 : hc_F hc_V0 RX13 TX13 19 14 13 0 := ⟨in_X13, rfl, rfl, by decide, rfl, by decide, rfl⟩ -- Generator.result
theorem F14_14 : hc_F hc_V0 RX13 TX13 19 14 14 0 := ⟨in_X13, rfl, rfl, by decide, rfl, by decide, rfl⟩ -- Generator.breakTo
theorem F14_15 : hc_F hc_V0 RX13 TX13 19 14 15 0 := ⟨in_X13, rfl, rfl, by decide, rfl, by decide, rfl⟩ -- Generator.continueTo
theorem F14_16 : hc_F hc_V0 RX13 TX13 19 14 16 0 := ⟨in_X13, rfl, rfl, by decide, rfl, by decide, rfl⟩ -- Generator.askedList
theorem F14_17 : hc_F hc_V0 RX13 TX13 19 14 17 0 := ⟨in_X13, rfl, rfl, by decide, rfl, by decide, rfl⟩ -- Generator.askedAt
theorem F14_18 : hc_F hc_V0 RX13 TX13 19 14 18 0 := ⟨in_X13, rfl, rfl, by decide, rfl, by decide, rfl⟩ -- Generator.asked
theorem F15_0 : hc_F hc_V0 RX14 TX14 2 15 0 5 := ⟨in_X14, rfl, rfl, by decide, rfl, by decide, rfl⟩ -- Folder.nodes
theorem F15_1 : hc_F hc_V0 RX14 TX14 2 15 1 0 := ⟨in_X14, rfl, rfl, by decide, rfl, by decide, rfl⟩ -- Folder.value
theorem F16_0 : hc_F hc_V0 RX15 TX15 9 16 0 5 := ⟨in_X15, rfl, rfl, by decide, rfl, by decide, rfl⟩ -- Homes.nodes
theorem F16_1 : hc_F hc_V0 RX15 TX15 9 16 1 5 := ⟨in_X15, rfl, rfl, by decide, rfl, by decide, rfl⟩ -- Homes.variables
theorem F16_2 : hc_F hc_V0 RX15 TX15 9 16 2 1 := ⟨in_X15, rfl, rfl, by decide, rfl, by decide, rfl⟩ -- Homes.weights
theorem F16_3 : hc_F hc_V0 RX15 TX15 9 16 3 1 := ⟨in_X15, rfl, rfl, by decide, rfl, by decide, rfl⟩ -- Homes.registers
theorem F16_4 : hc_F hc_V0 RX15 TX15 9 16 4 1 := ⟨in_X15, rfl, rfl, by decide, rfl, by decide, rfl⟩ -- Homes.lengths
theorem F16_5 : hc_F hc_V0 RX15 TX15 9 16 5 1 := ⟨in_X15, rfl, rfl, by decide, rfl, by decide, rfl⟩ -- Homes.places
theorem F16_6 : hc_F hc_V0 RX15 TX15 9 16 6 0 := ⟨in_X15, rfl, rfl, by decide, rfl, by decide, rfl⟩ -- Homes.used
theorem F16_7 : hc_F hc_V0 RX15 TX15 9 16 7 0 := ⟨in_X15, rfl, rfl, by decide, rfl, by decide, rfl⟩ -- Homes.parameterWords
theorem F16_8 : hc_F hc_V0 RX15 TX15 9 16 8 0 := ⟨in_X15, rfl, rfl, by decide, rfl, by decide, rfl⟩ -- Homes.localWords
theorem F17_0 : hc_F hc_V0 RX16 TX16 9 17 0 5 := ⟨in_X16, rfl, rfl, by decide, rfl, by decide, rfl⟩ -- Host.ram
theorem F17_1 : hc_F hc_V0 RX16 TX16 9 17 1 5 := ⟨in_X16, rfl, rfl, by decide, rfl, by decide, rfl⟩ -- Host.controls
theorem F17_2 : hc_F hc_V0 RX16 TX16 9 17 2 5 := ⟨in_X16, rfl, rfl, by decide, rfl, by decide, rfl⟩ -- Host.hart
theorem F17_3 : hc_F hc_V0 RX16 TX16 9 17 3 1 := ⟨in_X16, rfl, rfl, by decide, rfl, by decide, rfl⟩ -- Host.paper
theorem F17_4 : hc_F hc_V0 RX16 TX16 9 17 4 0 := ⟨in_X16, rfl, rfl, by decide, rfl, by decide, rfl⟩ -- Host.written
theorem F17_5 : hc_F hc_V0 RX16 TX16 9 17 5 1 := ⟨in_X16, rfl, rfl, by decide, rfl, by decide, rfl⟩ -- Host.input
theorem F17_6 : hc_F hc_V0 RX16 TX16 9 17 6 0 := ⟨in_X16, rfl, rfl, by decide, rfl, by decide, rfl⟩ -- Host.inputs
theorem F17_7 : hc_F hc_V0 RX16 TX16 9 17 7 1 := ⟨in_X16, rfl, rfl, by decide, rfl, by decide, rfl⟩ -- Host.disk
theorem F17_8 : hc_F hc_V0 RX16 TX16 9 17 8 0 := ⟨in_X16, rfl, rfl, by decide, rfl, by decide, rfl⟩ -- Host.value
theorem F18_0 : hc_F hc_V0 RX17 TX17 5 18 0 0 := ⟨in_X17, rfl, rfl, by decide, rfl, by decide, rfl⟩ -- Ram.bits
theorem F18_1 : hc_F hc_V0 RX17 TX17 5 18 1 1 := ⟨in_X17, rfl, rfl, by decide, rfl, by decide, rfl⟩ -- Ram.words
theorem F18_2 : hc_F hc_V0 RX17 TX17 5 18 2 2 := ⟨in_X17, rfl, rfl, by decide, rfl, by decide, rfl⟩ -- Ram.kept
theorem F18_3 : hc_F hc_V0 RX17 TX17 5 18 3 3 := ⟨in_X17, rfl, rfl, by decide, rfl, by decide, rfl⟩ -- Ram.tables
theorem F18_4 : hc_F hc_V0 RX17 TX17 5 18 4 0 := ⟨in_X17, rfl, rfl, by decide, rfl, by decide, rfl⟩ -- Ram.changes
theorem F19_0 : hc_F hc_V0 RX18 TX18 1 19 0 1 := ⟨in_X18, rfl, rfl, by decide, rfl, by decide, rfl⟩ -- Controls.values
theorem F20_0 : hc_F hc_V0 RX19 TX19 7 20 0 5 := ⟨in_X19, rfl, rfl, by decide, rfl, by decide, rfl⟩ -- Hart.ram
theorem F20_1 : hc_F hc_V0 RX19 TX19 7 20 1 5 := ⟨in_X19, rfl, rfl, by decide, rfl, by decide, rfl⟩ -- Hart.controls
theorem F20_2 : hc_F hc_V0 RX19 TX19 7 20 2 5 := ⟨in_X19, rfl, rfl, by decide, rfl, by decide, rfl⟩ -- Hart.walker
theorem F20_3 : hc_F hc_V0 RX19 TX19 7 20 3 1 := ⟨in_X19, rfl, rfl, by decide, rfl, by decide, rfl⟩ -- Hart.x
theorem F20_4 : hc_F hc_V0 RX19 TX19 7 20 4 0 := ⟨in_X19, rfl, rfl, by decide, rfl, by decide, rfl⟩ -- Hart.pc
theorem F20_5 : hc_F hc_V0 RX19 TX19 7 20 5 0 := ⟨in_X19, rfl, rfl, by decide, rfl, by decide, rfl⟩ -- Hart.mode
theorem F20_6 : hc_F hc_V0 RX19 TX19 7 20 6 0 := ⟨in_X19, rfl, rfl, by decide, rfl, by decide, rfl⟩ -- Hart.next
theorem F21_0 : hc_F hc_V0 RX20 TX20 5 21 0 5 := ⟨in_X20, rfl, rfl, by decide, rfl, by decide, rfl⟩ -- Walker.ram
theorem F21_1 : hc_F hc_V0 RX20 TX20 5 21 1 1 := ⟨in_X20, rfl, rfl, by decide, rfl, by decide, rfl⟩ -- Walker.tags
theorem F21_2 : hc_F hc_V0 RX20 TX20 5 21 2 1 := ⟨in_X20, rfl, rfl, by decide, rfl, by decide, rfl⟩ -- Walker.bases
theorem F21_3 : hc_F hc_V0 RX20 TX20 5 21 3 0 := ⟨in_X20, rfl, rfl, by decide, rfl, by decide, rfl⟩ -- Walker.tables
theorem F21_4 : hc_F hc_V0 RX20 TX20 5 21 4 0 := ⟨in_X20, rfl, rfl, by decide, rfl, by decide, rfl⟩ -- Walker.changes
theorem F22_0 : hc_F hc_V0 RX4 TX4 2 22 0 2 := ⟨in_X4, rfl, rfl, by decide, rfl, by decide, rfl⟩ -- tape.row
theorem F22_1 : hc_F hc_V0 RX4 TX4 2 22 1 0 := ⟨in_X4, rfl, rfl, by decide, rfl, by decide, rfl⟩ -- tape.size
theorem F23_0 : hc_F hc_V0 RX21 TX21 87 23 0 4 := ⟨in_X21, rfl, rfl, by decide, rfl, by decide, rfl⟩ -- Model.keywords
theorem F23_1 : hc_F hc_V0 RX21 TX21 87 23 1 4 := ⟨in_X21, rfl, rfl, by decide, rfl, by decide, rfl⟩ -- Model.marks
theorem F23_2 : hc_F hc_V0 RX21 TX21 87 23 2 4 := ⟨in_X21, rfl, rfl, by decide, rfl, by decide, rfl⟩ -- Model.ownNames
theorem F23_3 : hc_F hc_V0 RX21 TX21 87 23 3 4 := ⟨in_X21, rfl, rfl, by decide, rfl, by decide, rfl⟩ -- Model.ownTakes
theorem F23_4 : hc_F hc_V0 RX21 TX21 87 23 4 0 := ⟨in_X21, rfl, rfl, by decide, rfl, by decide, rfl⟩ -- Model.thrown
theorem F23_5 : hc_F hc_V0 RX21 TX21 87 23 5 2 := ⟨in_X21, rfl, rfl, by decide, rfl, by decide, rfl⟩ -- Model.tape
theorem F23_6 : hc_F hc_V0 RX21 TX21 87 23 6 0 := ⟨in_X21, rfl, rfl, by decide, rfl, by decide, rfl⟩ -- Model.taped
theorem F23_7 : hc_F hc_V0 RX21 TX21 87 23 7 2 := ⟨in_X21, rfl, rfl, by decide, rfl, by decide, rfl⟩ -- Model.text
theorem F23_8 : hc_F hc_V0 RX21 TX21 87 23 8 0 := ⟨in_X21, rfl, rfl, by decide, rfl, by decide, rfl⟩ -- Model.length
theorem F23_9 : hc_F hc_V0 RX21 TX21 87 23 9 0 := ⟨in_X21, rfl, rfl, by decide, rfl, by decide, rfl⟩ -- Model.system
theorem F23_10 : hc_F hc_V0 RX21 TX21 87 23 10 0 := ⟨in_X21, rfl, rfl, by decide, rfl, by decide, rfl⟩ -- Model.count
theorem F23_11 : hc_F hc_V0 RX21 TX21 87 23 11 1 := ⟨in_X21, rfl, rfl, by decide, rfl, by decide, rfl⟩ -- Model.starts
theorem F23_12 : hc_F hc_V0 RX21 TX21 87 23 12 1 := ⟨in_X21, rfl, rfl, by decide, rfl, by decide, rfl⟩ -- Model.sizes
theorem F23_13 : hc_F hc_V0 RX21 TX21 87 23 13 2 := ⟨in_X21, rfl, rfl, by decide, rfl, by decide, rfl⟩ -- Model.sorts
theorem F23_14 : hc_F hc_V0 RX21 TX21 87 23 14 1 := ⟨in_X21, rfl, rfl, by decide, rfl, by decide, rfl⟩ -- Model.which
theorem F23_15 : hc_F hc_V0 RX21 TX21 87 23 15 0 := ⟨in_X21, rfl, rfl, by decide, rfl, by decide, rfl⟩ -- Model.at
theorem F23_16 : hc_F hc_V0 RX21 TX21 87 23 16 0 := ⟨in_X21, rfl, rfl, by decide, rfl, by decide, rfl⟩ -- Model.open
theorem F23_17 : hc_F hc_V0 RX21 TX21 87 23 17 0 := ⟨in_X21, rfl, rfl, by decide, rfl, by decide, rfl⟩ -- Model.nodes
theorem F23_18 : hc_F hc_V0 RX21 TX21 87 23 18 2 := ⟨in_X21, rfl, rfl, by decide, rfl, by decide, rfl⟩ -- Model.kinds
theorem F23_19 : hc_F hc_V0 RX21 TX21 87 23 19 1 := ⟨in_X21, rfl, rfl, by decide, rfl, by decide, rfl⟩ -- Model.tokens
theorem F23_20 : hc_F hc_V0 RX21 TX21 87 23 20 1 := ⟨in_X21, rfl, rfl, by decide, rfl, by decide, rfl⟩ -- Model.firsts
theorem F23_21 : hc_F hc_V0 RX21 TX21 87 23 21 1 := ⟨in_X21, rfl, rfl, by decide, rfl, by decide, rfl⟩ -- Model.kidA
theorem F23_22 : hc_F hc_V0 RX21 TX21 87 23 22 1 := ⟨in_X21, rfl, rfl, by decide, rfl, by decide, rfl⟩ -- Model.kidB
theorem F23_23 : hc_F hc_V0 RX21 TX21 87 23 23 1 := ⟨in_X21, rfl, rfl, by decide, rfl, by decide, rfl⟩ -- Model.kidC
theorem F23_24 : hc_F hc_V0 RX21 TX21 87 23 24 1 := ⟨in_X21, rfl, rfl, by decide, rfl, by decide, rfl⟩ -- Model.kidD
theorem F23_25 : hc_F hc_V0 RX21 TX21 87 23 25 1 := ⟨in_X21, rfl, rfl, by decide, rfl, by decide, rfl⟩ -- Model.nexts
theorem F23_26 : hc_F hc_V0 RX21 TX21 87 23 26 1 := ⟨in_X21, rfl, rfl, by decide, rfl, by decide, rfl⟩ -- Model.ops
theorem F23_27 : hc_F hc_V0 RX21 TX21 87 23 27 1 := ⟨in_X21, rfl, rfl, by decide, rfl, by decide, rfl⟩ -- Model.depths
theorem F23_28 : hc_F hc_V0 RX21 TX21 87 23 28 0 := ⟨in_X21, rfl, rfl, by decide, rfl, by decide, rfl⟩ -- Model.program
theorem F23_29 : hc_F hc_V0 RX21 TX21 87 23 29 0 := ⟨in_X21, rfl, rfl, by decide, rfl, by decide, rfl⟩ -- Model.programEnd
theorem F23_30 : hc_F hc_V0 RX21 TX21 87 23 30 0 := ⟨in_X21, rfl, rfl, by decide, rfl, by decide, rfl⟩ -- Model.waiting
theorem F23_31 : hc_F hc_V0 RX21 TX21 87 23 31 1 := ⟨in_X21, rfl, rfl, by decide, rfl, by decide, rfl⟩ -- Model.waitRank
theorem F23_32 : hc_F hc_V0 RX21 TX21 87 23 32 1 := ⟨in_X21, rfl, rfl, by decide, rfl, by decide, rfl⟩ -- Model.waitToken
theorem F23_33 : hc_F hc_V0 RX21 TX21 87 23 33 1 := ⟨in_X21, rfl, rfl, by decide, rfl, by decide, rfl⟩ -- Model.waitNode
theorem F23_34 : hc_F hc_V0 RX21 TX21 87 23 34 0 := ⟨in_X21, rfl, rfl, by decide, rfl, by decide, rfl⟩ -- Model.wrong
theorem F23_35 : hc_F hc_V0 RX21 TX21 87 23 35 0 := ⟨in_X21, rfl, rfl, by decide, rfl, by decide, rfl⟩ -- Model.wrongToken
theorem F23_36 : hc_F hc_V0 RX21 TX21 87 23 36 0 := ⟨in_X21, rfl, rfl, by decide, rfl, by decide, rfl⟩ -- Model.answer
theorem F23_37 : hc_F hc_V0 RX21 TX21 87 23 37 0 := ⟨in_X21, rfl, rfl, by decide, rfl, by decide, rfl⟩ -- Model.where
theorem F23_38 : hc_F hc_V0 RX21 TX21 87 23 38 0 := ⟨in_X21, rfl, rfl, by decide, rfl, by decide, rfl⟩ -- Model.known
theorem F23_39 : hc_F hc_V0 RX21 TX21 87 23 39 1 := ⟨in_X21, rfl, rfl, by decide, rfl, by decide, rfl⟩ -- Model.knownToken
theorem F23_40 : hc_F hc_V0 RX21 TX21 87 23 40 1 := ⟨in_X21, rfl, rfl, by decide, rfl, by decide, rfl⟩ -- Model.knownWhat
theorem F23_41 : hc_F hc_V0 RX21 TX21 87 23 41 1 := ⟨in_X21, rfl, rfl, by decide, rfl, by decide, rfl⟩ -- Model.knownValue
theorem F23_42 : hc_F hc_V0 RX21 TX21 87 23 42 0 := ⟨in_X21, rfl, rfl, by decide, rfl, by decide, rfl⟩ -- Model.scope
theorem F23_43 : hc_F hc_V0 RX21 TX21 87 23 43 0 := ⟨in_X21, rfl, rfl, by decide, rfl, by decide, rfl⟩ -- Model.functionCount
theorem F23_44 : hc_F hc_V0 RX21 TX21 87 23 44 1 := ⟨in_X21, rfl, rfl, by decide, rfl, by decide, rfl⟩ -- Model.functionNode
theorem F23_45 : hc_F hc_V0 RX21 TX21 87 23 45 1 := ⟨in_X21, rfl, rfl, by decide, rfl, by decide, rfl⟩ -- Model.frames
theorem F23_46 : hc_F hc_V0 RX21 TX21 87 23 46 0 := ⟨in_X21, rfl, rfl, by decide, rfl, by decide, rfl⟩ -- Model.textWords
theorem F23_47 : hc_F hc_V0 RX21 TX21 87 23 47 0 := ⟨in_X21, rfl, rfl, by decide, rfl, by decide, rfl⟩ -- Model.frame
theorem F23_48 : hc_F hc_V0 RX21 TX21 87 23 48 0 := ⟨in_X21, rfl, rfl, by decide, rfl, by decide, rfl⟩ -- Model.inFunction
theorem F23_49 : hc_F hc_V0 RX21 TX21 87 23 49 0 := ⟨in_X21, rfl, rfl, by decide, rfl, by decide, rfl⟩ -- Model.loops
theorem F23_50 : hc_F hc_V0 RX21 TX21 87 23 50 0 := ⟨in_X21, rfl, rfl, by decide, rfl, by decide, rfl⟩ -- Model.switches
theorem F23_51 : hc_F hc_V0 RX21 TX21 87 23 51 0 := ⟨in_X21, rfl, rfl, by decide, rfl, by decide, rfl⟩ -- Model.badK
theorem F23_52 : hc_F hc_V0 RX21 TX21 87 23 52 0 := ⟨in_X21, rfl, rfl, by decide, rfl, by decide, rfl⟩ -- Model.openK
theorem F23_53 : hc_F hc_V0 RX21 TX21 87 23 53 0 := ⟨in_X21, rfl, rfl, by decide, rfl, by decide, rfl⟩ -- Model.symbols
theorem F23_54 : hc_F hc_V0 RX21 TX21 87 23 54 2 := ⟨in_X21, rfl, rfl, by decide, rfl, by decide, rfl⟩ -- Model.symbolSort
theorem F23_55 : hc_F hc_V0 RX21 TX21 87 23 55 3 := ⟨in_X21, rfl, rfl, by decide, rfl, by decide, rfl⟩ -- Model.symbolOfText
theorem F23_56 : hc_F hc_V0 RX21 TX21 87 23 56 1 := ⟨in_X21, rfl, rfl, by decide, rfl, by decide, rfl⟩ -- Model.symbolAt
theorem F23_57 : hc_F hc_V0 RX21 TX21 87 23 57 1 := ⟨in_X21, rfl, rfl, by decide, rfl, by decide, rfl⟩ -- Model.symbolSize
theorem F23_58 : hc_F hc_V0 RX21 TX21 87 23 58 1 := ⟨in_X21, rfl, rfl, by decide, rfl, by decide, rfl⟩ -- Model.knownSymbol
theorem F23_59 : hc_F hc_V0 RX21 TX21 87 23 59 0 := ⟨in_X21, rfl, rfl, by decide, rfl, by decide, rfl⟩ -- Model.cellsNow
theorem F23_60 : hc_F hc_V0 RX21 TX21 87 23 60 0 := ⟨in_X21, rfl, rfl, by decide, rfl, by decide, rfl⟩ -- Model.textCells
theorem F23_61 : hc_F hc_V0 RX21 TX21 87 23 61 1 := ⟨in_X21, rfl, rfl, by decide, rfl, by decide, rfl⟩ -- Model.frameCells
theorem F23_62 : hc_F hc_V0 RX21 TX21 87 23 62 0 := ⟨in_X21, rfl, rfl, by decide, rfl, by decide, rfl⟩ -- Model.result
theorem F23_63 : hc_F hc_V0 RX21 TX21 87 23 63 0 := ⟨in_X21, rfl, rfl, by decide, rfl, by decide, rfl⟩ -- Model.sizeNow
theorem F23_64 : hc_F hc_V0 RX21 TX21 87 23 64 0 := ⟨in_X21, rfl, rfl, by decide, rfl, by decide, rfl⟩ -- Model.tall
theorem F23_65 : hc_F hc_V0 RX21 TX21 87 23 65 0 := ⟨in_X21, rfl, rfl, by decide, rfl, by decide, rfl⟩ -- Model.runs
theorem F23_66 : hc_F hc_V0 RX21 TX21 87 23 66 1 := ⟨in_X21, rfl, rfl, by decide, rfl, by decide, rfl⟩ -- Model.cells
theorem F23_67 : hc_F hc_V0 RX21 TX21 87 23 67 0 := ⟨in_X21, rfl, rfl, by decide, rfl, by decide, rfl⟩ -- Model.base
theorem F23_68 : hc_F hc_V0 RX21 TX21 87 23 68 0 := ⟨in_X21, rfl, rfl, by decide, rfl, by decide, rfl⟩ -- Model.top
theorem F23_69 : hc_F hc_V0 RX21 TX21 87 23 69 0 := ⟨in_X21, rfl, rfl, by decide, rfl, by decide, rfl⟩ -- Model.todo
theorem F23_70 : hc_F hc_V0 RX21 TX21 87 23 70 1 := ⟨in_X21, rfl, rfl, by decide, rfl, by decide, rfl⟩ -- Model.todoNode
theorem F23_71 : hc_F hc_V0 RX21 TX21 87 23 71 1 := ⟨in_X21, rfl, rfl, by decide, rfl, by decide, rfl⟩ -- Model.todoState
theorem F23_72 : hc_F hc_V0 RX21 TX21 87 23 72 0 := ⟨in_X21, rfl, rfl, by decide, rfl, by decide, rfl⟩ -- Model.found
theorem F23_73 : hc_F hc_V0 RX21 TX21 87 23 73 1 := ⟨in_X21, rfl, rfl, by decide, rfl, by decide, rfl⟩ -- Model.numbers
theorem F23_74 : hc_F hc_V0 RX21 TX21 87 23 74 0 := ⟨in_X21, rfl, rfl, by decide, rfl, by decide, rfl⟩ -- Model.calls
theorem F23_75 : hc_F hc_V0 RX21 TX21 87 23 75 1 := ⟨in_X21, rfl, rfl, by decide, rfl, by decide, rfl⟩ -- Model.callBase
theorem F23_76 : hc_F hc_V0 RX21 TX21 87 23 76 1 := ⟨in_X21, rfl, rfl, by decide, rfl, by decide, rfl⟩ -- Model.callTop
theorem F23_77 : hc_F hc_V0 RX21 TX21 87 23 77 0 := ⟨in_X21, rfl, rfl, by decide, rfl, by decide, rfl⟩ -- Model.status
theorem F23_78 : hc_F hc_V0 RX21 TX21 87 23 78 0 := ⟨in_X21, rfl, rfl, by decide, rfl, by decide, rfl⟩ -- Model.value
theorem F23_79 : hc_F hc_V0 RX21 TX21 87 23 79 0 := ⟨in_X21, rfl, rfl, by decide, rfl, by decide, rfl⟩ -- Model.work
theorem F23_80 : hc_F hc_V0 RX21 TX21 87 23 80 0 := ⟨in_X21, rfl, rfl, by decide, rfl, by decide, rfl⟩ -- Model.stack
theorem F23_81 : hc_F hc_V0 RX21 TX21 87 23 81 0 := ⟨in_X21, rfl, rfl, by decide, rfl, by decide, rfl⟩ -- Model.written
theorem F23_82 : hc_F hc_V0 RX21 TX21 87 23 82 1 := ⟨in_X21, rfl, rfl, by decide, rfl, by decide, rfl⟩ -- Model.papers
theorem F23_83 : hc_F hc_V0 RX21 TX21 87 23 83 0 := ⟨in_X21, rfl, rfl, by decide, rfl, by decide, rfl⟩ -- Model.waitingInputs
theorem F23_84 : hc_F hc_V0 RX21 TX21 87 23 84 1 := ⟨in_X21, rfl, rfl, by decide, rfl, by decide, rfl⟩ -- Model.inputs
theorem F23_85 : hc_F hc_V0 RX21 TX21 87 23 85 1 := ⟨in_X21, rfl, rfl, by decide, rfl, by decide, rfl⟩ -- Model.disk
theorem F23_86 : hc_F hc_V0 RX21 TX21 87 23 86 0 := ⟨in_X21, rfl, rfl, by decide, rfl, by decide, rfl⟩ -- Model.life
theorem PX1_11 : hc_Fp TX1 18 11 (tyX1 11) := ⟨tyX1, tyX1_ok, nmX1, rfl, rfl, by decide⟩
theorem PX1_12 : hc_Fp TX1 18 12 (tyX1 12) := ⟨tyX1, tyX1_ok, nmX1, rfl, rfl, by decide⟩
theorem PX1_13 : hc_Fp TX1 18 13 (tyX1 13) := ⟨tyX1, tyX1_ok, nmX1, rfl, rfl, by decide⟩
theorem PX1_14 : hc_Fp TX1 18 14 (tyX1 14) := ⟨tyX1, tyX1_ok, nmX1, rfl, rfl, by decide⟩
theorem PX1_15 : hc_Fp TX1 18 15 (tyX1 15) := ⟨tyX1, tyX1_ok, nmX1, rfl, rfl, by decide⟩
theorem PX1_16 : hc_Fp TX1 18 16 (tyX1 16) := ⟨tyX1, tyX1_ok, nmX1, rfl, rfl, by decide⟩
theorem PX1_17 : hc_Fp TX1 18 17 (tyX1 17) := ⟨tyX1, tyX1_ok, nmX1, rfl, rfl, by decide⟩
theorem PX3_1 : hc_Fp TX3 6 1 (tyX3 1) := ⟨tyX3, tyX3_ok, nmX3, rfl, rfl, by decide⟩
theorem PX3_2 : hc_Fp TX3 6 2 (tyX3 2) := ⟨tyX3, tyX3_ok, nmX3, rfl, rfl, by decide⟩
theorem PX3_3 : hc_Fp TX3 6 3 (tyX3 3) := ⟨tyX3, tyX3_ok, nmX3, rfl, rfl, by decide⟩
theorem PX3_4 : hc_Fp TX3 6 4 (tyX3 4) := ⟨tyX3, tyX3_ok, nmX3, rfl, rfl, by decide⟩
theorem PX4_0 : hc_Fp TX4 2 0 (tyX4 0) := ⟨tyX4, tyX4_ok, nmX4, rfl, rfl, by decide⟩
theorem PX4_1 : hc_Fp TX4 2 1 (tyX4 1) := ⟨tyX4, tyX4_ok, nmX4, rfl, rfl, by decide⟩
theorem PX5_4 : hc_Fp TX5 11 4 (tyX5 4) := ⟨tyX5, tyX5_ok, nmX5, rfl, rfl, by decide⟩
theorem PX5_5 : hc_Fp TX5 11 5 (tyX5 5) := ⟨tyX5, tyX5_ok, nmX5, rfl, rfl, by decide⟩
theorem PX5_6 : hc_Fp TX5 11 6 (tyX5 6) := ⟨tyX5, tyX5_ok, nmX5, rfl, rfl, by decide⟩
theorem PX5_7 : hc_Fp TX5 11 7 (tyX5 7) := ⟨tyX5, tyX5_ok, nmX5, rfl, rfl, by decide⟩
theorem PX5_8 : hc_Fp TX5 11 8 (tyX5 8) := ⟨tyX5, tyX5_ok, nmX5, rfl, rfl, by decide⟩
theorem PX5_9 : hc_Fp TX5 11 9 (tyX5 9) := ⟨tyX5, tyX5_ok, nmX5, rfl, rfl, by decide⟩
theorem PX5_10 : hc_Fp TX5 11 10 (tyX5 10) := ⟨tyX5, tyX5_ok, nmX5, rfl, rfl, by decide⟩
theorem PX6_0 : hc_Fp TX6 11 0 (tyX6 0) := ⟨tyX6, tyX6_ok, nmX6, rfl, rfl, by decide⟩
theorem PX6_1 : hc_Fp TX6 11 1 (tyX6 1) := ⟨tyX6, tyX6_ok, nmX6, rfl, rfl, by decide⟩
theorem PX6_2 : hc_Fp TX6 11 2 (tyX6 2) := ⟨tyX6, tyX6_ok, nmX6, rfl, rfl, by decide⟩
theorem PX6_3 : hc_Fp TX6 11 3 (tyX6 3) := ⟨tyX6, tyX6_ok, nmX6, rfl, rfl, by decide⟩
theorem PX6_4 : hc_Fp TX6 11 4 (tyX6 4) := ⟨tyX6, tyX6_ok, nmX6, rfl, rfl, by decide⟩
theorem PX6_5 : hc_Fp TX6 11 5 (tyX6 5) := ⟨tyX6, tyX6_ok, nmX6, rfl, rfl, by decide⟩
theorem PX6_6 : hc_Fp TX6 11 6 (tyX6 6) := ⟨tyX6, tyX6_ok, nmX6, rfl, rfl, by decide⟩
theorem PX6_7 : hc_Fp TX6 11 7 (tyX6 7) := ⟨tyX6, tyX6_ok, nmX6, rfl, rfl, by decide⟩
theorem PX6_8 : hc_Fp TX6 11 8 (tyX6 8) := ⟨tyX6, tyX6_ok, nmX6, rfl, rfl, by decide⟩
theorem PX6_9 : hc_Fp TX6 11 9 (tyX6 9) := ⟨tyX6, tyX6_ok, nmX6, rfl, rfl, by decide⟩
theorem PX6_10 : hc_Fp TX6 11 10 (tyX6 10) := ⟨tyX6, tyX6_ok, nmX6, rfl, rfl, by decide⟩
theorem PX7_2 : hc_Fp TX7 6 2 (tyX7 2) := ⟨tyX7, tyX7_ok, nmX7, rfl, rfl, by decide⟩
theorem PX7_5 : hc_Fp TX7 6 5 (tyX7 5) := ⟨tyX7, tyX7_ok, nmX7, rfl, rfl, by decide⟩
theorem PX8_7 : hc_Fp TX8 16 7 (tyX8 7) := ⟨tyX8, tyX8_ok, nmX8, rfl, rfl, by decide⟩
theorem PX8_8 : hc_Fp TX8 16 8 (tyX8 8) := ⟨tyX8, tyX8_ok, nmX8, rfl, rfl, by decide⟩
theorem PX8_9 : hc_Fp TX8 16 9 (tyX8 9) := ⟨tyX8, tyX8_ok, nmX8, rfl, rfl, by decide⟩
theorem PX8_10 : hc_Fp TX8 16 10 (tyX8 10) := ⟨tyX8, tyX8_ok, nmX8, rfl, rfl, by decide⟩
theorem PX8_11 : hc_Fp TX8 16 11 (tyX8 11) := ⟨tyX8, tyX8_ok, nmX8, rfl, rfl, by decide⟩
theorem PX8_12 : hc_Fp TX8 16 12 (tyX8 12) := ⟨tyX8, tyX8_ok, nmX8, rfl, rfl, by decide⟩
theorem PX8_13 : hc_Fp TX8 16 13 (tyX8 13) := ⟨tyX8, tyX8_ok, nmX8, rfl, rfl, by decide⟩
theorem PX8_14 : hc_Fp TX8 16 14 (tyX8 14) := ⟨tyX8, tyX8_ok, nmX8, rfl, rfl, by decide⟩
theorem PX8_15 : hc_Fp TX8 16 15 (tyX8 15) := ⟨tyX8, tyX8_ok, nmX8, rfl, rfl, by decide⟩
theorem PX9_0 : hc_Fp TX9 2 0 (tyX9 0) := ⟨tyX9, tyX9_ok, nmX9, rfl, rfl, by decide⟩
theorem PX9_1 : hc_Fp TX9 2 1 (tyX9 1) := ⟨tyX9, tyX9_ok, nmX9, rfl, rfl, by decide⟩
theorem PX10_0 : hc_Fp TX10 8 0 (tyX10 0) := ⟨tyX10, tyX10_ok, nmX10, rfl, rfl, by decide⟩
theorem PX10_1 : hc_Fp TX10 8 1 (tyX10 1) := ⟨tyX10, tyX10_ok, nmX10, rfl, rfl, by decide⟩
theorem PX10_2 : hc_Fp TX10 8 2 (tyX10 2) := ⟨tyX10, tyX10_ok, nmX10, rfl, rfl, by decide⟩
theorem PX10_3 : hc_Fp TX10 8 3 (tyX10 3) := ⟨tyX10, tyX10_ok, nmX10, rfl, rfl, by decide⟩
theorem PX10_4 : hc_Fp TX10 8 4 (tyX10 4) := ⟨tyX10, tyX10_ok, nmX10, rfl, rfl, by decide⟩
theorem PX10_5 : hc_Fp TX10 8 5 (tyX10 5) := ⟨tyX10, tyX10_ok, nmX10, rfl, rfl, by decide⟩
theorem PX10_7 : hc_Fp TX10 8 7 (tyX10 7) := ⟨tyX10, tyX10_ok, nmX10, rfl, rfl, by decide⟩
theorem PX11_0 : hc_Fp TX11 6 0 (tyX11 0) := ⟨tyX11, tyX11_ok, nmX11, rfl, rfl, by decide⟩
theorem PX11_1 : hc_Fp TX11 6 1 (tyX11 1) := ⟨tyX11, tyX11_ok, nmX11, rfl, rfl, by decide⟩
theorem PX11_2 : hc_Fp TX11 6 2 (tyX11 2) := ⟨tyX11, tyX11_ok, nmX11, rfl, rfl, by decide⟩
theorem PX11_3 : hc_Fp TX11 6 3 (tyX11 3) := ⟨tyX11, tyX11_ok, nmX11, rfl, rfl, by decide⟩
theorem PX11_4 : hc_Fp TX11 6 4 (tyX11 4) := ⟨tyX11, tyX11_ok, nmX11, rfl, rfl, by decide⟩
theorem PX11_5 : hc_Fp TX11 6 5 (tyX11 5) := ⟨tyX11, tyX11_ok, nmX11, rfl, rfl, by decide⟩
theorem PX12_0 : hc_Fp TX12 7 0 (tyX12 0) := ⟨tyX12, tyX12_ok, nmX12, rfl, rfl, by decide⟩
theorem PX12_1 : hc_Fp TX12 7 1 (tyX12 1) := ⟨tyX12, tyX12_ok, nmX12, rfl, rfl, by decide⟩
theorem PX12_2 : hc_Fp TX12 7 2 (tyX12 2) := ⟨tyX12, tyX12_ok, nmX12, rfl, rfl, by decide⟩
theorem PX12_3 : hc_Fp TX12 7 3 (tyX12 3) := ⟨tyX12, tyX12_ok, nmX12, rfl, rfl, by decide⟩
theorem PX12_4 : hc_Fp TX12 7 4 (tyX12 4) := ⟨tyX12, tyX12_ok, nmX12, rfl, rfl, by decide⟩
theorem PX12_5 : hc_Fp TX12 7 5 (tyX12 5) := ⟨tyX12, tyX12_ok, nmX12, rfl, rfl, by decide⟩
theorem PX12_6 : hc_Fp TX12 7 6 (tyX12 6) := ⟨tyX12, tyX12_ok, nmX12, rfl, rfl, by decide⟩
theorem PX13_8 : hc_Fp TX13 19 8 (tyX13 8) := ⟨tyX13, tyX13_ok, nmX13, rfl, rfl, by decide⟩
theorem PX13_9 : hc_Fp TX13 19 9 (tyX13 9) := ⟨tyX13, tyX13_ok, nmX13, rfl, rfl, by decide⟩
theorem PX13_11 : hc_Fp TX13 19 11 (tyX13 11) := ⟨tyX13, tyX13_ok, nmX13, rfl, rfl, by decide⟩
theorem PX13_12 : hc_Fp TX13 19 12 (tyX13 12) := ⟨tyX13, tyX13_ok, nmX13, rfl, rfl, by decide⟩
theorem PX13_13 : hc_Fp TX13 19 13 (tyX13 13) := ⟨tyX13, tyX13_ok, nmX13, rfl, rfl, by decide⟩
theorem PX13_14 : hc_Fp TX13 19 14 (tyX13 14) := ⟨tyX13, tyX13_ok, nmX13, rfl, rfl, by decide⟩
theorem PX13_15 : hc_Fp TX13 19 15 (tyX13 15) := ⟨tyX13, tyX13_ok, nmX13, rfl, rfl, by decide⟩
theorem PX13_16 : hc_Fp TX13 19 16 (tyX13 16) := ⟨tyX13, tyX13_ok, nmX13, rfl, rfl, by decide⟩
theorem PX13_17 : hc_Fp TX13 19 17 (tyX13 17) := ⟨tyX13, tyX13_ok, nmX13, rfl, rfl, by decide⟩
theorem PX13_18 : hc_Fp TX13 19 18 (tyX13 18) := ⟨tyX13, tyX13_ok, nmX13, rfl, rfl, by decide⟩
theorem PX14_1 : hc_Fp TX14 2 1 (tyX14 1) := ⟨tyX14, tyX14_ok, nmX14, rfl, rfl, by decide⟩
theorem PX15_2 : hc_Fp TX15 9 2 (tyX15 2) := ⟨tyX15, tyX15_ok, nmX15, rfl, rfl, by decide⟩
theorem PX15_3 : hc_Fp TX15 9 3 (tyX15 3) := ⟨tyX15, tyX15_ok, nmX15, rfl, rfl, by decide⟩
theorem PX15_4 : hc_Fp TX15 9 4 (tyX15 4) := ⟨tyX15, tyX15_ok, nmX15, rfl, rfl, by decide⟩
theorem PX15_5 : hc_Fp TX15 9 5 (tyX15 5) := ⟨tyX15, tyX15_ok, nmX15, rfl, rfl, by decide⟩
theorem PX15_6 : hc_Fp TX15 9 6 (tyX15 6) := ⟨tyX15, tyX15_ok, nmX15, rfl, rfl, by decide⟩
theorem PX15_7 : hc_Fp TX15 9 7 (tyX15 7) := ⟨tyX15, tyX15_ok, nmX15, rfl, rfl, by decide⟩
theorem PX15_8 : hc_Fp TX15 9 8 (tyX15 8) := ⟨tyX15, tyX15_ok, nmX15, rfl, rfl, by decide⟩
theorem PX16_4 : hc_Fp TX16 9 4 (tyX16 4) := ⟨tyX16, tyX16_ok, nmX16, rfl, rfl, by decide⟩
theorem PX16_6 : hc_Fp TX16 9 6 (tyX16 6) := ⟨tyX16, tyX16_ok, nmX16, rfl, rfl, by decide⟩
theorem PX16_8 : hc_Fp TX16 9 8 (tyX16 8) := ⟨tyX16, tyX16_ok, nmX16, rfl, rfl, by decide⟩
theorem PX17_4 : hc_Fp TX17 5 4 (tyX17 4) := ⟨tyX17, tyX17_ok, nmX17, rfl, rfl, by decide⟩
theorem PX19_4 : hc_Fp TX19 7 4 (tyX19 4) := ⟨tyX19, tyX19_ok, nmX19, rfl, rfl, by decide⟩
theorem PX19_5 : hc_Fp TX19 7 5 (tyX19 5) := ⟨tyX19, tyX19_ok, nmX19, rfl, rfl, by decide⟩
theorem PX19_6 : hc_Fp TX19 7 6 (tyX19 6) := ⟨tyX19, tyX19_ok, nmX19, rfl, rfl, by decide⟩
theorem PX20_3 : hc_Fp TX20 5 3 (tyX20 3) := ⟨tyX20, tyX20_ok, nmX20, rfl, rfl, by decide⟩
theorem PX20_4 : hc_Fp TX20 5 4 (tyX20 4) := ⟨tyX20, tyX20_ok, nmX20, rfl, rfl, by decide⟩
theorem PX21_4 : hc_Fp TX21 87 4 (tyX21 4) := ⟨tyX21, tyX21_ok, nmX21, rfl, rfl, by decide⟩
theorem PX21_6 : hc_Fp TX21 87 6 (tyX21 6) := ⟨tyX21, tyX21_ok, nmX21, rfl, rfl, by decide⟩
theorem PX21_8 : hc_Fp TX21 87 8 (tyX21 8) := ⟨tyX21, tyX21_ok, nmX21, rfl, rfl, by decide⟩
theorem PX21_9 : hc_Fp TX21 87 9 (tyX21 9) := ⟨tyX21, tyX21_ok, nmX21, rfl, rfl, by decide⟩
theorem PX21_10 : hc_Fp TX21 87 10 (tyX21 10) := ⟨tyX21, tyX21_ok, nmX21, rfl, rfl, by decide⟩
theorem PX21_15 : hc_Fp TX21 87 15 (tyX21 15) := ⟨tyX21, tyX21_ok, nmX21, rfl, rfl, by decide⟩
theorem PX21_16 : hc_Fp TX21 87 16 (tyX21 16) := ⟨tyX21, tyX21_ok, nmX21, rfl, rfl, by decide⟩
theorem PX21_17 : hc_Fp TX21 87 17 (tyX21 17) := ⟨tyX21, tyX21_ok, nmX21, rfl, rfl, by decide⟩
theorem PX21_28 : hc_Fp TX21 87 28 (tyX21 28) := ⟨tyX21, tyX21_ok, nmX21, rfl, rfl, by decide⟩
theorem PX21_29 : hc_Fp TX21 87 29 (tyX21 29) := ⟨tyX21, tyX21_ok, nmX21, rfl, rfl, by decide⟩
theorem PX21_30 : hc_Fp TX21 87 30 (tyX21 30) := ⟨tyX21, tyX21_ok, nmX21, rfl, rfl, by decide⟩
theorem PX21_34 : hc_Fp TX21 87 34 (tyX21 34) := ⟨tyX21, tyX21_ok, nmX21, rfl, rfl, by decide⟩
theorem PX21_35 : hc_Fp TX21 87 35 (tyX21 35) := ⟨tyX21, tyX21_ok, nmX21, rfl, rfl, by decide⟩
theorem PX21_36 : hc_Fp TX21 87 36 (tyX21 36) := ⟨tyX21, tyX21_ok, nmX21, rfl, rfl, by decide⟩
theorem PX21_37 : hc_Fp TX21 87 37 (tyX21 37) := ⟨tyX21, tyX21_ok, nmX21, rfl, rfl, by decide⟩
theorem PX21_38 : hc_Fp TX21 87 38 (tyX21 38) := ⟨tyX21, tyX21_ok, nmX21, rfl, rfl, by decide⟩
theorem PX21_42 : hc_Fp TX21 87 42 (tyX21 42) := ⟨tyX21, tyX21_ok, nmX21, rfl, rfl, by decide⟩
theorem PX21_43 : hc_Fp TX21 87 43 (tyX21 43) := ⟨tyX21, tyX21_ok, nmX21, rfl, rfl, by decide⟩
theorem PX21_46 : hc_Fp TX21 87 46 (tyX21 46) := ⟨tyX21, tyX21_ok, nmX21, rfl, rfl, by decide⟩
theorem PX21_47 : hc_Fp TX21 87 47 (tyX21 47) := ⟨tyX21, tyX21_ok, nmX21, rfl, rfl, by decide⟩
theorem PX21_48 : hc_Fp TX21 87 48 (tyX21 48) := ⟨tyX21, tyX21_ok, nmX21, rfl, rfl, by decide⟩
theorem PX21_49 : hc_Fp TX21 87 49 (tyX21 49) := ⟨tyX21, tyX21_ok, nmX21, rfl, rfl, by decide⟩
theorem PX21_50 : hc_Fp TX21 87 50 (tyX21 50) := ⟨tyX21, tyX21_ok, nmX21, rfl, rfl, by decide⟩
theorem PX21_51 : hc_Fp TX21 87 51 (tyX21 51) := ⟨tyX21, tyX21_ok, nmX21, rfl, rfl, by decide⟩
theorem PX21_52 : hc_Fp TX21 87 52 (tyX21 52) := ⟨tyX21, tyX21_ok, nmX21, rfl, rfl, by decide⟩
theorem PX21_53 : hc_Fp TX21 87 53 (tyX21 53) := ⟨tyX21, tyX21_ok, nmX21, rfl, rfl, by decide⟩
theorem PX21_59 : hc_Fp TX21 87 59 (tyX21 59) := ⟨tyX21, tyX21_ok, nmX21, rfl, rfl, by decide⟩
theorem PX21_60 : hc_Fp TX21 87 60 (tyX21 60) := ⟨tyX21, tyX21_ok, nmX21, rfl, rfl, by decide⟩
theorem PX21_62 : hc_Fp TX21 87 62 (tyX21 62) := ⟨tyX21, tyX21_ok, nmX21, rfl, rfl, by decide⟩
theorem PX21_63 : hc_Fp TX21 87 63 (tyX21 63) := ⟨tyX21, tyX21_ok, nmX21, rfl, rfl, by decide⟩
theorem PX21_64 : hc_Fp TX21 87 64 (tyX21 64) := ⟨tyX21, tyX21_ok, nmX21, rfl, rfl, by decide⟩
theorem PX21_65 : hc_Fp TX21 87 65 (tyX21 65) := ⟨tyX21, tyX21_ok, nmX21, rfl, rfl, by decide⟩
theorem PX21_67 : hc_Fp TX21 87 67 (tyX21 67) := ⟨tyX21, tyX21_ok, nmX21, rfl, rfl, by decide⟩
theorem PX21_68 : hc_Fp TX21 87 68 (tyX21 68) := ⟨tyX21, tyX21_ok, nmX21, rfl, rfl, by decide⟩
theorem PX21_69 : hc_Fp TX21 87 69 (tyX21 69) := ⟨tyX21, tyX21_ok, nmX21, rfl, rfl, by decide⟩
theorem PX21_72 : hc_Fp TX21 87 72 (tyX21 72) := ⟨tyX21, tyX21_ok, nmX21, rfl, rfl, by decide⟩
theorem PX21_74 : hc_Fp TX21 87 74 (tyX21 74) := ⟨tyX21, tyX21_ok, nmX21, rfl, rfl, by decide⟩
theorem PX21_77 : hc_Fp TX21 87 77 (tyX21 77) := ⟨tyX21, tyX21_ok, nmX21, rfl, rfl, by decide⟩
theorem PX21_78 : hc_Fp TX21 87 78 (tyX21 78) := ⟨tyX21, tyX21_ok, nmX21, rfl, rfl, by decide⟩
theorem PX21_79 : hc_Fp TX21 87 79 (tyX21 79) := ⟨tyX21, tyX21_ok, nmX21, rfl, rfl, by decide⟩
theorem PX21_80 : hc_Fp TX21 87 80 (tyX21 80) := ⟨tyX21, tyX21_ok, nmX21, rfl, rfl, by decide⟩
theorem PX21_81 : hc_Fp TX21 87 81 (tyX21 81) := ⟨tyX21, tyX21_ok, nmX21, rfl, rfl, by decide⟩
theorem PX21_83 : hc_Fp TX21 87 83 (tyX21 83) := ⟨tyX21, tyX21_ok, nmX21, rfl, rfl, by decide⟩
theorem PX21_86 : hc_Fp TX21 87 86 (tyX21 86) := ⟨tyX21, tyX21_ok, nmX21, rfl, rfl, by decide⟩
theorem A1_0 : hc_Af hc_V0 1 0 4 := ⟨⟨0, rfl⟩, rfl⟩
theorem A1_1 : hc_Af hc_V0 1 1 4 := ⟨⟨1, rfl⟩, rfl⟩
theorem A1_2 : hc_Af hc_V0 1 2 4 := ⟨⟨2, rfl⟩, rfl⟩
theorem A2_1 : hc_Af hc_V0 2 1 1 := ⟨⟨3, rfl⟩, rfl⟩
theorem A2_2 : hc_Af hc_V0 2 2 1 := ⟨⟨4, rfl⟩, rfl⟩
theorem A2_3 : hc_Af hc_V0 2 3 1 := ⟨⟨5, rfl⟩, rfl⟩
theorem A2_5 : hc_Af hc_V0 2 5 1 := ⟨⟨6, rfl⟩, rfl⟩
theorem A3_0 : hc_Af hc_V0 3 0 2 := ⟨⟨7, rfl⟩, rfl⟩
theorem A4_0 : hc_Af hc_V0 4 0 2 := ⟨⟨8, rfl⟩, rfl⟩
theorem A5_3 : hc_Af hc_V0 5 3 4 := ⟨⟨9, rfl⟩, rfl⟩
theorem A6_0 : hc_Af hc_V0 6 0 1 := ⟨⟨10, rfl⟩, rfl⟩
theorem A6_1 : hc_Af hc_V0 6 1 1 := ⟨⟨11, rfl⟩, rfl⟩
theorem A6_2 : hc_Af hc_V0 6 2 1 := ⟨⟨12, rfl⟩, rfl⟩
theorem A6_3 : hc_Af hc_V0 6 3 1 := ⟨⟨13, rfl⟩, rfl⟩
theorem A6_4 : hc_Af hc_V0 6 4 1 := ⟨⟨14, rfl⟩, rfl⟩
theorem A6_5 : hc_Af hc_V0 6 5 1 := ⟨⟨15, rfl⟩, rfl⟩
theorem A6_6 : hc_Af hc_V0 6 6 1 := ⟨⟨16, rfl⟩, rfl⟩
theorem A6_7 : hc_Af hc_V0 6 7 1 := ⟨⟨17, rfl⟩, rfl⟩
theorem A6_8 : hc_Af hc_V0 6 8 1 := ⟨⟨18, rfl⟩, rfl⟩
theorem A6_9 : hc_Af hc_V0 6 9 1 := ⟨⟨19, rfl⟩, rfl⟩
theorem A7_3 : hc_Af hc_V0 7 3 1 := ⟨⟨20, rfl⟩, rfl⟩
theorem A7_4 : hc_Af hc_V0 7 4 1 := ⟨⟨21, rfl⟩, rfl⟩
theorem A8_7 : hc_Af hc_V0 8 7 1 := ⟨⟨22, rfl⟩, rfl⟩
theorem A8_8 : hc_Af hc_V0 8 8 1 := ⟨⟨23, rfl⟩, rfl⟩
theorem A10_0 : hc_Af hc_V0 10 0 1 := ⟨⟨24, rfl⟩, rfl⟩
theorem A10_1 : hc_Af hc_V0 10 1 1 := ⟨⟨25, rfl⟩, rfl⟩
theorem A10_2 : hc_Af hc_V0 10 2 1 := ⟨⟨26, rfl⟩, rfl⟩
theorem A10_3 : hc_Af hc_V0 10 3 1 := ⟨⟨27, rfl⟩, rfl⟩
theorem A10_5 : hc_Af hc_V0 10 5 1 := ⟨⟨28, rfl⟩, rfl⟩
theorem A10_6 : hc_Af hc_V0 10 6 1 := ⟨⟨29, rfl⟩, rfl⟩
theorem A11_0 : hc_Af hc_V0 11 0 1 := ⟨⟨30, rfl⟩, rfl⟩
theorem A11_1 : hc_Af hc_V0 11 1 1 := ⟨⟨31, rfl⟩, rfl⟩
theorem A11_2 : hc_Af hc_V0 11 2 1 := ⟨⟨32, rfl⟩, rfl⟩
theorem A11_4 : hc_Af hc_V0 11 4 1 := ⟨⟨33, rfl⟩, rfl⟩
theorem A12_0 : hc_Af hc_V0 12 0 2 := ⟨⟨34, rfl⟩, rfl⟩
theorem A13_0 : hc_Af hc_V0 13 0 1 := ⟨⟨35, rfl⟩, rfl⟩
theorem A13_2 : hc_Af hc_V0 13 2 1 := ⟨⟨36, rfl⟩, rfl⟩
theorem A13_4 : hc_Af hc_V0 13 4 1 := ⟨⟨37, rfl⟩, rfl⟩
theorem A13_5 : hc_Af hc_V0 13 5 1 := ⟨⟨38, rfl⟩, rfl⟩
theorem A14_8 : hc_Af hc_V0 14 8 1 := ⟨⟨39, rfl⟩, rfl⟩
theorem A14_9 : hc_Af hc_V0 14 9 1 := ⟨⟨40, rfl⟩, rfl⟩
theorem A14_10 : hc_Af hc_V0 14 10 1 := ⟨⟨41, rfl⟩, rfl⟩
theorem A16_2 : hc_Af hc_V0 16 2 1 := ⟨⟨42, rfl⟩, rfl⟩
theorem A16_3 : hc_Af hc_V0 16 3 1 := ⟨⟨43, rfl⟩, rfl⟩
theorem A16_4 : hc_Af hc_V0 16 4 1 := ⟨⟨44, rfl⟩, rfl⟩
theorem A16_5 : hc_Af hc_V0 16 5 1 := ⟨⟨45, rfl⟩, rfl⟩
theorem A17_3 : hc_Af hc_V0 17 3 1 := ⟨⟨46, rfl⟩, rfl⟩
theorem A17_5 : hc_Af hc_V0 17 5 1 := ⟨⟨47, rfl⟩, rfl⟩
theorem A17_7 : hc_Af hc_V0 17 7 1 := ⟨⟨48, rfl⟩, rfl⟩
theorem A18_1 : hc_Af hc_V0 18 1 1 := ⟨⟨49, rfl⟩, rfl⟩
theorem A18_2 : hc_Af hc_V0 18 2 2 := ⟨⟨50, rfl⟩, rfl⟩
theorem A18_3 : hc_Af hc_V0 18 3 3 := ⟨⟨51, rfl⟩, rfl⟩
theorem A19_0 : hc_Af hc_V0 19 0 1 := ⟨⟨52, rfl⟩, rfl⟩
theorem A20_3 : hc_Af hc_V0 20 3 1 := ⟨⟨53, rfl⟩, rfl⟩
theorem A21_1 : hc_Af hc_V0 21 1 1 := ⟨⟨54, rfl⟩, rfl⟩
theorem A21_2 : hc_Af hc_V0 21 2 1 := ⟨⟨55, rfl⟩, rfl⟩
theorem A22_0 : hc_Af hc_V0 22 0 2 := ⟨⟨56, rfl⟩, rfl⟩
theorem A23_0 : hc_Af hc_V0 23 0 4 := ⟨⟨57, rfl⟩, rfl⟩
theorem A23_1 : hc_Af hc_V0 23 1 4 := ⟨⟨58, rfl⟩, rfl⟩
theorem A23_2 : hc_Af hc_V0 23 2 4 := ⟨⟨59, rfl⟩, rfl⟩
theorem A23_3 : hc_Af hc_V0 23 3 4 := ⟨⟨60, rfl⟩, rfl⟩
theorem A23_5 : hc_Af hc_V0 23 5 2 := ⟨⟨61, rfl⟩, rfl⟩
theorem A23_7 : hc_Af hc_V0 23 7 2 := ⟨⟨62, rfl⟩, rfl⟩
theorem A23_11 : hc_Af hc_V0 23 11 1 := ⟨⟨63, rfl⟩, rfl⟩
theorem A23_12 : hc_Af hc_V0 23 12 1 := ⟨⟨64, rfl⟩, rfl⟩
theorem A23_13 : hc_Af hc_V0 23 13 2 := ⟨⟨65, rfl⟩, rfl⟩
theorem A23_14 : hc_Af hc_V0 23 14 1 := ⟨⟨66, rfl⟩, rfl⟩
theorem A23_18 : hc_Af hc_V0 23 18 2 := ⟨⟨67, rfl⟩, rfl⟩
theorem A23_19 : hc_Af hc_V0 23 19 1 := ⟨⟨68, rfl⟩, rfl⟩
theorem A23_20 : hc_Af hc_V0 23 20 1 := ⟨⟨69, rfl⟩, rfl⟩
theorem A23_21 : hc_Af hc_V0 23 21 1 := ⟨⟨70, rfl⟩, rfl⟩
theorem A23_22 : hc_Af hc_V0 23 22 1 := ⟨⟨71, rfl⟩, rfl⟩
theorem A23_23 : hc_Af hc_V0 23 23 1 := ⟨⟨72, rfl⟩, rfl⟩
theorem A23_24 : hc_Af hc_V0 23 24 1 := ⟨⟨73, rfl⟩, rfl⟩
theorem A23_25 : hc_Af hc_V0 23 25 1 := ⟨⟨74, rfl⟩, rfl⟩
theorem A23_26 : hc_Af hc_V0 23 26 1 := ⟨⟨75, rfl⟩, rfl⟩
theorem A23_27 : hc_Af hc_V0 23 27 1 := ⟨⟨76, rfl⟩, rfl⟩
theorem A23_31 : hc_Af hc_V0 23 31 1 := ⟨⟨77, rfl⟩, rfl⟩
theorem A23_32 : hc_Af hc_V0 23 32 1 := ⟨⟨78, rfl⟩, rfl⟩
theorem A23_33 : hc_Af hc_V0 23 33 1 := ⟨⟨79, rfl⟩, rfl⟩
theorem A23_39 : hc_Af hc_V0 23 39 1 := ⟨⟨80, rfl⟩, rfl⟩
theorem A23_40 : hc_Af hc_V0 23 40 1 := ⟨⟨81, rfl⟩, rfl⟩
theorem A23_41 : hc_Af hc_V0 23 41 1 := ⟨⟨82, rfl⟩, rfl⟩
theorem A23_44 : hc_Af hc_V0 23 44 1 := ⟨⟨83, rfl⟩, rfl⟩
theorem A23_45 : hc_Af hc_V0 23 45 1 := ⟨⟨84, rfl⟩, rfl⟩
theorem A23_54 : hc_Af hc_V0 23 54 2 := ⟨⟨85, rfl⟩, rfl⟩
theorem A23_55 : hc_Af hc_V0 23 55 3 := ⟨⟨86, rfl⟩, rfl⟩
theorem A23_56 : hc_Af hc_V0 23 56 1 := ⟨⟨87, rfl⟩, rfl⟩
theorem A23_57 : hc_Af hc_V0 23 57 1 := ⟨⟨88, rfl⟩, rfl⟩
theorem A23_58 : hc_Af hc_V0 23 58 1 := ⟨⟨89, rfl⟩, rfl⟩
theorem A23_61 : hc_Af hc_V0 23 61 1 := ⟨⟨90, rfl⟩, rfl⟩
theorem A23_66 : hc_Af hc_V0 23 66 1 := ⟨⟨91, rfl⟩, rfl⟩
theorem A23_70 : hc_Af hc_V0 23 70 1 := ⟨⟨92, rfl⟩, rfl⟩
theorem A23_71 : hc_Af hc_V0 23 71 1 := ⟨⟨93, rfl⟩, rfl⟩
theorem A23_73 : hc_Af hc_V0 23 73 1 := ⟨⟨94, rfl⟩, rfl⟩
theorem A23_75 : hc_Af hc_V0 23 75 1 := ⟨⟨95, rfl⟩, rfl⟩
theorem A23_76 : hc_Af hc_V0 23 76 1 := ⟨⟨96, rfl⟩, rfl⟩
theorem A23_82 : hc_Af hc_V0 23 82 1 := ⟨⟨97, rfl⟩, rfl⟩
theorem A23_84 : hc_Af hc_V0 23 84 1 := ⟨⟨98, rfl⟩, rfl⟩
theorem A23_85 : hc_Af hc_V0 23 85 1 := ⟨⟨99, rfl⟩, rfl⟩
theorem A24_0 : hc_Af hc_V0 24 0 7 := ⟨⟨100, rfl⟩, rfl⟩
theorem nl_0 {E : hc_E} {A : Nat → Prop} {U : State} {H : Heap} (h : hc_J0 E A U H) : va_Nw (Cond.fieldLinkNest RX1 273 RX19 (TX19 3).2.1 (TX19 3).2.2.1 "HomeCompiler") U := h.2.1 ("HomeCompiler", 273, "HomeCompiler$Hart", "x", "[I") (List.mem_of_getElem? (i := 0) rfl)
theorem nl_1 {E : hc_E} {A : Nat → Prop} {U : State} {H : Heap} (h : hc_J0 E A U H) : va_Nw (Cond.fieldLinkNest RX1 208 RX16 (TX16 0).2.1 (TX16 0).2.2.1 "HomeCompiler") U := h.2.1 ("HomeCompiler", 208, "HomeCompiler$Host", "ram", "LHomeCompiler$Ram;") (List.mem_of_getElem? (i := 1) rfl)
theorem nl_2 {E : hc_E} {A : Nat → Prop} {U : State} {H : Heap} (h : hc_J0 E A U H) : va_Nw (Cond.fieldLinkNest RX1 269 RX16 (TX16 2).2.1 (TX16 2).2.2.1 "HomeCompiler") U := h.2.1 ("HomeCompiler", 269, "HomeCompiler$Host", "hart", "LHomeCompiler$Hart;") (List.mem_of_getElem? (i := 2) rfl)
theorem nl_3 {E : hc_E} {A : Nat → Prop} {U : State} {H : Heap} (h : hc_J0 E A U H) : va_Nw (Cond.fieldLinkNest RX1 287 RX16 (TX16 3).2.1 (TX16 3).2.2.1 "HomeCompiler") U := h.2.1 ("HomeCompiler", 287, "HomeCompiler$Host", "paper", "[I") (List.mem_of_getElem? (i := 3) rfl)
theorem nl_4 {E : hc_E} {A : Nat → Prop} {U : State} {H : Heap} (h : hc_J0 E A U H) : va_Nw (Cond.fieldLinkNest RX1 136 RX16 (TX16 4).2.1 (TX16 4).2.2.1 "HomeCompiler") U := h.2.1 ("HomeCompiler", 136, "HomeCompiler$Host", "written", "I") (List.mem_of_getElem? (i := 4) rfl)
theorem nl_5 {E : hc_E} {A : Nat → Prop} {U : State} {H : Heap} (h : hc_J0 E A U H) : va_Nw (Cond.fieldLinkNest RX1 224 RX16 (TX16 5).2.1 (TX16 5).2.2.1 "HomeCompiler") U := h.2.1 ("HomeCompiler", 224, "HomeCompiler$Host", "input", "[I") (List.mem_of_getElem? (i := 5) rfl)
theorem nl_6 {E : hc_E} {A : Nat → Prop} {U : State} {H : Heap} (h : hc_J0 E A U H) : va_Nw (Cond.fieldLinkNest RX1 221 RX16 (TX16 6).2.1 (TX16 6).2.2.1 "HomeCompiler") U := h.2.1 ("HomeCompiler", 221, "HomeCompiler$Host", "inputs", "I") (List.mem_of_getElem? (i := 6) rfl)
theorem nl_7 {E : hc_E} {A : Nat → Prop} {U : State} {H : Heap} (h : hc_J0 E A U H) : va_Nw (Cond.fieldLinkNest RX1 290 RX16 (TX16 7).2.1 (TX16 7).2.2.1 "HomeCompiler") U := h.2.1 ("HomeCompiler", 290, "HomeCompiler$Host", "disk", "[I") (List.mem_of_getElem? (i := 7) rfl)
theorem nl_8 {E : hc_E} {A : Nat → Prop} {U : State} {H : Heap} (h : hc_J0 E A U H) : va_Nw (Cond.fieldLinkNest RX1 139 RX16 (TX16 8).2.1 (TX16 8).2.2.1 "HomeCompiler") U := h.2.1 ("HomeCompiler", 139, "HomeCompiler$Host", "value", "I") (List.mem_of_getElem? (i := 8) rfl)
theorem nl_9 {E : hc_E} {A : Nat → Prop} {U : State} {H : Heap} (h : hc_J0 E A U H) : va_Nw (Cond.fieldLinkNest RX16 54 RX19 (TX19 3).2.1 (TX19 3).2.2.1 "HomeCompiler") U := h.2.1 ("HomeCompiler$Host", 54, "HomeCompiler$Hart", "x", "[I") (List.mem_of_getElem? (i := 9) rfl)
theorem nl_10 {E : hc_E} {A : Nat → Prop} {U : State} {H : Heap} (h : hc_J0 E A U H) : va_Nw (Cond.fieldLinkNest RX16 60 RX19 (TX19 4).2.1 (TX19 4).2.2.1 "HomeCompiler") U := h.2.1 ("HomeCompiler$Host", 60, "HomeCompiler$Hart", "pc", "I") (List.mem_of_getElem? (i := 10) rfl)
theorem nl_11 {E : hc_E} {A : Nat → Prop} {U : State} {H : Heap} (h : hc_J0 E A U H) : va_Nw (Cond.fieldLinkNest RX16 63 RX19 (TX19 5).2.1 (TX19 5).2.2.1 "HomeCompiler") U := h.2.1 ("HomeCompiler$Host", 63, "HomeCompiler$Hart", "mode", "I") (List.mem_of_getElem? (i := 11) rfl)
/-- the objects of the class Bytes -/
def hc_by (o : Nat) : Prop := o = 3 ∨ o = 4 ∨ o = 12 ∨ o = 22
theorem FB_0 {o : Nat} (h : hc_by o) : hc_F hc_V0 RX4 TX4 2 o 0 2 := by
  rcases h with rfl | rfl | rfl | rfl
  · exact F3_0
  · exact F4_0
  · exact F12_0
  · exact F22_0
theorem FB_1 {o : Nat} (h : hc_by o) : hc_F hc_V0 RX4 TX4 2 o 1 0 := by
  rcases h with rfl | rfl | rfl | rfl
  · exact F3_1
  · exact F4_1
  · exact F12_1
  · exact F22_1
theorem AB_0 {o : Nat} (h : hc_by o) : hc_Af hc_V0 o 0 2 := by
  rcases h with rfl | rfl | rfl | rfl
  · exact A3_0
  · exact A4_0
  · exact A12_0
  · exact A22_0
theorem OB_0 : hc_Ob hc_V0 RX1 0 := ⟨_, _, rfl, by decide⟩
theorem OB_1 : hc_Ob hc_V0 RX2 1 := ⟨_, _, rfl, by decide⟩
theorem OB_2 : hc_Ob hc_V0 RX3 2 := ⟨_, _, rfl, by decide⟩
theorem OB_3 : hc_Ob hc_V0 RX4 3 := ⟨_, _, rfl, by decide⟩
theorem OB_4 : hc_Ob hc_V0 RX4 4 := ⟨_, _, rfl, by decide⟩
theorem OB_5 : hc_Ob hc_V0 RX5 5 := ⟨_, _, rfl, by decide⟩
theorem OB_6 : hc_Ob hc_V0 RX6 6 := ⟨_, _, rfl, by decide⟩
theorem OB_7 : hc_Ob hc_V0 RX7 7 := ⟨_, _, rfl, by decide⟩
theorem OB_8 : hc_Ob hc_V0 RX8 8 := ⟨_, _, rfl, by decide⟩
theorem OB_9 : hc_Ob hc_V0 RX9 9 := ⟨_, _, rfl, by decide⟩
theorem OB_10 : hc_Ob hc_V0 RX10 10 := ⟨_, _, rfl, by decide⟩
theorem OB_11 : hc_Ob hc_V0 RX11 11 := ⟨_, _, rfl, by decide⟩
theorem OB_12 : hc_Ob hc_V0 RX4 12 := ⟨_, _, rfl, by decide⟩
theorem OB_13 : hc_Ob hc_V0 RX12 13 := ⟨_, _, rfl, by decide⟩
theorem OB_14 : hc_Ob hc_V0 RX13 14 := ⟨_, _, rfl, by decide⟩
theorem OB_15 : hc_Ob hc_V0 RX14 15 := ⟨_, _, rfl, by decide⟩
theorem OB_16 : hc_Ob hc_V0 RX15 16 := ⟨_, _, rfl, by decide⟩
theorem OB_17 : hc_Ob hc_V0 RX16 17 := ⟨_, _, rfl, by decide⟩
theorem OB_18 : hc_Ob hc_V0 RX17 18 := ⟨_, _, rfl, by decide⟩
theorem OB_19 : hc_Ob hc_V0 RX18 19 := ⟨_, _, rfl, by decide⟩
theorem OB_20 : hc_Ob hc_V0 RX19 20 := ⟨_, _, rfl, by decide⟩
theorem OB_21 : hc_Ob hc_V0 RX20 21 := ⟨_, _, rfl, by decide⟩
theorem OB_22 : hc_Ob hc_V0 RX4 22 := ⟨_, _, rfl, by decide⟩
theorem OB_23 : hc_Ob hc_V0 RX21 23 := ⟨_, _, rfl, by decide⟩
theorem OB_by {o : Nat} (h : hc_by o) : hc_Ob hc_V0 RX4 o := by
  rcases h with rfl | rfl | rfl | rfl
  · exact OB_3
  · exact OB_4
  · exact OB_12
  · exact OB_22
theorem hc_by_in {o : Nat} (h : hc_by o) : o ∈ [3, 4, 12, 22] := by
  rcases h with rfl | rfl | rfl | rfl <;> decide
theorem pd_J5_length : (parseMethodDescriptor yJ5_length.desc).map (fun sig => sig.parameters.length) = some 0 := by decide +kernel
theorem pd_J5_coder : (parseMethodDescriptor yJ5_coder.desc).map (fun sig => sig.parameters.length) = some 0 := by decide +kernel
theorem pd_J5_charAt : (parseMethodDescriptor yJ5_charAt.desc).map (fun sig => sig.parameters.length) = some 1 := by decide +kernel
theorem pd_J5_isLatin1 : (parseMethodDescriptor yJ5_isLatin1.desc).map (fun sig => sig.parameters.length) = some 0 := by decide +kernel
theorem pd_J5_checkIndex : (parseMethodDescriptor yJ5_checkIndex.desc).map (fun sig => sig.parameters.length) = some 2 := by decide +kernel
theorem pd_J5_equals : (parseMethodDescriptor yJ5_equals.desc).map (fun sig => sig.parameters.length) = some 1 := by decide +kernel
theorem pd_J6_charAt : (parseMethodDescriptor yJ6_charAt.desc).map (fun sig => sig.parameters.length) = some 2 := by decide +kernel
theorem pd_J6_equals : (parseMethodDescriptor yJ6_equals.desc).map (fun sig => sig.parameters.length) = some 2 := by decide +kernel
theorem pd_J7_checkIndex : (parseMethodDescriptor yJ7_checkIndex.desc).map (fun sig => sig.parameters.length) = some 3 := by decide +kernel
theorem pd_J9_max : (parseMethodDescriptor yJ9_max.desc).map (fun sig => sig.parameters.length) = some 2 := by decide +kernel
theorem pd_J9_min : (parseMethodDescriptor yJ9_min.desc).map (fun sig => sig.parameters.length) = some 2 := by decide +kernel
theorem pd_X0_feed : (parseMethodDescriptor yX0_feed.desc).map (fun sig => sig.parameters.length) = some 6 := by decide +kernel
theorem pd_X0_end : (parseMethodDescriptor yX0_end.desc).map (fun sig => sig.parameters.length) = some 2 := by decide +kernel
theorem pd_X0_input : (parseMethodDescriptor yX0_input.desc).map (fun sig => sig.parameters.length) = some 2 := by decide +kernel
theorem pd_X0_run : (parseMethodDescriptor yX0_run.desc).map (fun sig => sig.parameters.length) = some 5 := by decide +kernel
theorem pd_X0_paperAt : (parseMethodDescriptor yX0_paperAt.desc).map (fun sig => sig.parameters.length) = some 3 := by decide +kernel
theorem pd_X0_disk : (parseMethodDescriptor yX0_disk.desc).map (fun sig => sig.parameters.length) = some 3 := by decide +kernel
theorem pd_X0_setDisk : (parseMethodDescriptor yX0_setDisk.desc).map (fun sig => sig.parameters.length) = some 3 := by decide +kernel
theorem pd_X0_variable : (parseMethodDescriptor yX0_variable.desc).map (fun sig => sig.parameters.length) = some 3 := by decide +kernel
theorem pd_X1_init : (parseMethodDescriptor yX1_init.desc).map (fun sig => sig.parameters.length) = some 0 := by decide +kernel
theorem pd_X1_load : (parseMethodDescriptor yX1_load.desc).map (fun sig => sig.parameters.length) = some 0 := by decide +kernel
theorem pd_X1_read : (parseMethodDescriptor yX1_read.desc).map (fun sig => sig.parameters.length) = some 0 := by decide +kernel
theorem pd_X1_compile : (parseMethodDescriptor yX1_compile.desc).map (fun sig => sig.parameters.length) = some 0 := by decide +kernel
theorem pd_X1_place : (parseMethodDescriptor yX1_place.desc).map (fun sig => sig.parameters.length) = some 0 := by decide +kernel
theorem pd_X1_value : (parseMethodDescriptor yX1_value.desc).map (fun sig => sig.parameters.length) = some 0 := by decide +kernel
theorem pd_X1_left : (parseMethodDescriptor yX1_left.desc).map (fun sig => sig.parameters.length) = some 0 := by decide +kernel
theorem pd_X1_paper : (parseMethodDescriptor yX1_paper.desc).map (fun sig => sig.parameters.length) = some 0 := by decide +kernel
theorem pd_X1_inputs : (parseMethodDescriptor yX1_inputs.desc).map (fun sig => sig.parameters.length) = some 0 := by decide +kernel
theorem pd_X1_life : (parseMethodDescriptor yX1_life.desc).map (fun sig => sig.parameters.length) = some 0 := by decide +kernel
theorem pd_X1_feed : (parseMethodDescriptor yX1_feed.desc).map (fun sig => sig.parameters.length) = some 5 := by decide +kernel
theorem pd_X1_ready : (parseMethodDescriptor yX1_ready.desc).map (fun sig => sig.parameters.length) = some 1 := by decide +kernel
theorem pd_X1_feedInt : (parseMethodDescriptor yX1_feedInt.desc).map (fun sig => sig.parameters.length) = some 1 := by decide +kernel
theorem pd_X1_end : (parseMethodDescriptor yX1_end.desc).map (fun sig => sig.parameters.length) = some 1 := by decide +kernel
theorem pd_X1_need : (parseMethodDescriptor yX1_need.desc).map (fun sig => sig.parameters.length) = some 1 := by decide +kernel
theorem pd_X1_input : (parseMethodDescriptor yX1_input.desc).map (fun sig => sig.parameters.length) = some 1 := by decide +kernel
theorem pd_X1_run : (parseMethodDescriptor yX1_run.desc).map (fun sig => sig.parameters.length) = some 3 := by decide +kernel
theorem pd_X1_begin : (parseMethodDescriptor yX1_begin.desc).map (fun sig => sig.parameters.length) = some 0 := by decide +kernel
theorem pd_X1_variable : (parseMethodDescriptor yX1_variable.desc).map (fun sig => sig.parameters.length) = some 2 := by decide +kernel
theorem pd_X1_paperAt : (parseMethodDescriptor yX1_paperAt.desc).map (fun sig => sig.parameters.length) = some 1 := by decide +kernel
theorem pd_X1_within : (parseMethodDescriptor yX1_within.desc).map (fun sig => sig.parameters.length) = some 1 := by decide +kernel
theorem pd_X1_disk : (parseMethodDescriptor yX1_disk.desc).map (fun sig => sig.parameters.length) = some 1 := by decide +kernel
theorem pd_X1_setDisk : (parseMethodDescriptor yX1_setDisk.desc).map (fun sig => sig.parameters.length) = some 2 := by decide +kernel
theorem pd_X1_variable_2 : (parseMethodDescriptor yX1_variable_2.desc).map (fun sig => sig.parameters.length) = some 1 := by decide +kernel
theorem pd_X10_init : (parseMethodDescriptor yX10_init.desc).map (fun sig => sig.parameters.length) = some 0 := by decide +kernel
theorem pd_X10_clear : (parseMethodDescriptor yX10_clear.desc).map (fun sig => sig.parameters.length) = some 1 := by decide +kernel
theorem pd_X10_add : (parseMethodDescriptor yX10_add.desc).map (fun sig => sig.parameters.length) = some 3 := by decide +kernel
theorem pd_X10_longer : (parseMethodDescriptor yX10_longer.desc).map (fun sig => sig.parameters.length) = some 1 := by decide +kernel
theorem pd_X10_isHere : (parseMethodDescriptor yX10_isHere.desc).map (fun sig => sig.parameters.length) = some 1 := by decide +kernel
theorem pd_X10_find : (parseMethodDescriptor yX10_find.desc).map (fun sig => sig.parameters.length) = some 1 := by decide +kernel
theorem pd_X10_sort : (parseMethodDescriptor yX10_sort.desc).map (fun sig => sig.parameters.length) = some 1 := by decide +kernel
theorem pd_X10_value : (parseMethodDescriptor yX10_value.desc).map (fun sig => sig.parameters.length) = some 1 := by decide +kernel
theorem pd_X10_open : (parseMethodDescriptor yX10_open.desc).map (fun sig => sig.parameters.length) = some 0 := by decide +kernel
theorem pd_X10_close : (parseMethodDescriptor yX10_close.desc).map (fun sig => sig.parameters.length) = some 0 := by decide +kernel
theorem pd_X11_init : (parseMethodDescriptor yX11_init.desc).map (fun sig => sig.parameters.length) = some 0 := by decide +kernel
theorem pd_X11_clear : (parseMethodDescriptor yX11_clear.desc).map (fun sig => sig.parameters.length) = some 0 := by decide +kernel
theorem pd_X11_size : (parseMethodDescriptor yX11_size.desc).map (fun sig => sig.parameters.length) = some 1 := by decide +kernel
theorem pd_X11_type : (parseMethodDescriptor yX11_type.desc).map (fun sig => sig.parameters.length) = some 1 := by decide +kernel
theorem pd_X11_add : (parseMethodDescriptor yX11_add.desc).map (fun sig => sig.parameters.length) = some 3 := by decide +kernel
theorem pd_X11_longer : (parseMethodDescriptor yX11_longer.desc).map (fun sig => sig.parameters.length) = some 1 := by decide +kernel
theorem pd_X11_words : (parseMethodDescriptor yX11_words.desc).map (fun sig => sig.parameters.length) = some 1 := by decide +kernel
theorem pd_X11_sum : (parseMethodDescriptor yX11_sum.desc).map (fun sig => sig.parameters.length) = some 2 := by decide +kernel
theorem pd_X11_wordsOf : (parseMethodDescriptor yX11_wordsOf.desc).map (fun sig => sig.parameters.length) = some 1 := by decide +kernel
theorem pd_X11_count : (parseMethodDescriptor yX11_count.desc).map (fun sig => sig.parameters.length) = some 0 := by decide +kernel
theorem pd_X11_owner : (parseMethodDescriptor yX11_owner.desc).map (fun sig => sig.parameters.length) = some 1 := by decide +kernel
theorem pd_X12_init : (parseMethodDescriptor yX12_init.desc).map (fun sig => sig.parameters.length) = some 0 := by decide +kernel
theorem pd_X12_clear : (parseMethodDescriptor yX12_clear.desc).map (fun sig => sig.parameters.length) = some 0 := by decide +kernel
theorem pd_X12_label : (parseMethodDescriptor yX12_label.desc).map (fun sig => sig.parameters.length) = some 0 := by decide +kernel
theorem pd_X12_longer : (parseMethodDescriptor yX12_longer.desc).map (fun sig => sig.parameters.length) = some 1 := by decide +kernel
theorem pd_X12_store : (parseMethodDescriptor yX12_store.desc).map (fun sig => sig.parameters.length) = some 4 := by decide +kernel
theorem pd_X12_emit : (parseMethodDescriptor yX12_emit.desc).map (fun sig => sig.parameters.length) = some 1 := by decide +kernel
theorem pd_X12_jump : (parseMethodDescriptor yX12_jump.desc).map (fun sig => sig.parameters.length) = some 2 := by decide +kernel
theorem pd_X12_set : (parseMethodDescriptor yX12_set.desc).map (fun sig => sig.parameters.length) = some 2 := by decide +kernel
theorem pd_X12_number : (parseMethodDescriptor yX12_number.desc).map (fun sig => sig.parameters.length) = some 4 := by decide +kernel
theorem pd_X12_setLong : (parseMethodDescriptor yX12_setLong.desc).map (fun sig => sig.parameters.length) = some 2 := by decide +kernel
theorem pd_X12_upper : (parseMethodDescriptor yX12_upper.desc).map (fun sig => sig.parameters.length) = some 1 := by decide +kernel
theorem pd_X12_call : (parseMethodDescriptor yX12_call.desc).map (fun sig => sig.parameters.length) = some 0 := by decide +kernel
theorem pd_X12_here : (parseMethodDescriptor yX12_here.desc).map (fun sig => sig.parameters.length) = some 1 := by decide +kernel
theorem pd_X12_branch : (parseMethodDescriptor yX12_branch.desc).map (fun sig => sig.parameters.length) = some 4 := by decide +kernel
theorem pd_X12_add : (parseMethodDescriptor yX12_add.desc).map (fun sig => sig.parameters.length) = some 4 := by decide +kernel
theorem pd_X12_both : (parseMethodDescriptor yX12_both.desc).map (fun sig => sig.parameters.length) = some 5 := by decide +kernel
theorem pd_X12_move : (parseMethodDescriptor yX12_move.desc).map (fun sig => sig.parameters.length) = some 2 := by decide +kernel
theorem pd_X12_hole : (parseMethodDescriptor yX12_hole.desc).map (fun sig => sig.parameters.length) = some 1 := by decide +kernel
theorem pd_X12_storeAt : (parseMethodDescriptor yX12_storeAt.desc).map (fun sig => sig.parameters.length) = some 4 := by decide +kernel
theorem pd_X12_loadAt : (parseMethodDescriptor yX12_loadAt.desc).map (fun sig => sig.parameters.length) = some 4 := by decide +kernel
theorem pd_X12_load : (parseMethodDescriptor yX12_load.desc).map (fun sig => sig.parameters.length) = some 4 := by decide +kernel
theorem pd_X12_control : (parseMethodDescriptor yX12_control.desc).map (fun sig => sig.parameters.length) = some 4 := by decide +kernel
theorem pd_X12_fill : (parseMethodDescriptor yX12_fill.desc).map (fun sig => sig.parameters.length) = some 3 := by decide +kernel
theorem pd_X12_finish : (parseMethodDescriptor yX12_finish.desc).map (fun sig => sig.parameters.length) = some 0 := by decide +kernel
theorem pd_X12_count : (parseMethodDescriptor yX12_count.desc).map (fun sig => sig.parameters.length) = some 0 := by decide +kernel
theorem pd_X12_word : (parseMethodDescriptor yX12_word.desc).map (fun sig => sig.parameters.length) = some 1 := by decide +kernel
theorem pd_X13_init : (parseMethodDescriptor yX13_init.desc).map (fun sig => sig.parameters.length) = some 5 := by decide +kernel
theorem pd_X13_placeAll : (parseMethodDescriptor yX13_placeAll.desc).map (fun sig => sig.parameters.length) = some 1 := by decide +kernel
theorem pd_X13_compile : (parseMethodDescriptor yX13_compile.desc).map (fun sig => sig.parameters.length) = some 1 := by decide +kernel
theorem pd_X13_function : (parseMethodDescriptor yX13_function.desc).map (fun sig => sig.parameters.length) = some 2 := by decide +kernel
theorem pd_X13_takeWork : (parseMethodDescriptor yX13_takeWork.desc).map (fun sig => sig.parameters.length) = some 0 := by decide +kernel
theorem pd_X13_end : (parseMethodDescriptor yX13_end.desc).map (fun sig => sig.parameters.length) = some 1 := by decide +kernel
theorem pd_X13_begin : (parseMethodDescriptor yX13_begin.desc).map (fun sig => sig.parameters.length) = some 1 := by decide +kernel
theorem pd_X13_clear : (parseMethodDescriptor yX13_clear.desc).map (fun sig => sig.parameters.length) = some 3 := by decide +kernel
theorem pd_X13_statements : (parseMethodDescriptor yX13_statements.desc).map (fun sig => sig.parameters.length) = some 1 := by decide +kernel
theorem pd_X13_statement : (parseMethodDescriptor yX13_statement.desc).map (fun sig => sig.parameters.length) = some 1 := by decide +kernel
theorem pd_X13_variable : (parseMethodDescriptor yX13_variable.desc).map (fun sig => sig.parameters.length) = some 1 := by decide +kernel
theorem pd_X13_array : (parseMethodDescriptor yX13_array.desc).map (fun sig => sig.parameters.length) = some 2 := by decide +kernel
theorem pd_X13_given : (parseMethodDescriptor yX13_given.desc).map (fun sig => sig.parameters.length) = some 2 := by decide +kernel
theorem pd_X13_begins : (parseMethodDescriptor yX13_begins.desc).map (fun sig => sig.parameters.length) = some 3 := by decide +kernel
theorem pd_X13_element : (parseMethodDescriptor yX13_element.desc).map (fun sig => sig.parameters.length) = some 2 := by decide +kernel
theorem pd_X13_value : (parseMethodDescriptor yX13_value.desc).map (fun sig => sig.parameters.length) = some 2 := by decide +kernel
theorem pd_X13_dest : (parseMethodDescriptor yX13_dest.desc).map (fun sig => sig.parameters.length) = some 1 := by decide +kernel
theorem pd_X13_temp : (parseMethodDescriptor yX13_temp.desc).map (fun sig => sig.parameters.length) = some 1 := by decide +kernel
theorem pd_X13_keep : (parseMethodDescriptor yX13_keep.desc).map (fun sig => sig.parameters.length) = some 1 := by decide +kernel
theorem pd_X13_met : (parseMethodDescriptor yX13_met.desc).map (fun sig => sig.parameters.length) = some 1 := by decide +kernel
theorem pd_X13_slot : (parseMethodDescriptor yX13_slot.desc).map (fun sig => sig.parameters.length) = some 1 := by decide +kernel
theorem pd_X13_name : (parseMethodDescriptor yX13_name.desc).map (fun sig => sig.parameters.length) = some 2 := by decide +kernel
theorem pd_X13_read : (parseMethodDescriptor yX13_read.desc).map (fun sig => sig.parameters.length) = some 2 := by decide +kernel
theorem pd_X13_reach : (parseMethodDescriptor yX13_reach.desc).map (fun sig => sig.parameters.length) = some 2 := by decide +kernel
theorem pd_X13_use : (parseMethodDescriptor yX13_use.desc).map (fun sig => sig.parameters.length) = some 2 := by decide +kernel
theorem pd_X13_length : (parseMethodDescriptor yX13_length.desc).map (fun sig => sig.parameters.length) = some 2 := by decide +kernel
theorem pd_X13_address : (parseMethodDescriptor yX13_address.desc).map (fun sig => sig.parameters.length) = some 3 := by decide +kernel
theorem pd_X13_loadElement : (parseMethodDescriptor yX13_loadElement.desc).map (fun sig => sig.parameters.length) = some 2 := by decide +kernel
theorem pd_X13_call : (parseMethodDescriptor yX13_call.desc).map (fun sig => sig.parameters.length) = some 2 := by decide +kernel
theorem pd_X13_own : (parseMethodDescriptor yX13_own.desc).map (fun sig => sig.parameters.length) = some 3 := by decide +kernel
theorem pd_X13_isHome : (parseMethodDescriptor yX13_isHome.desc).map (fun sig => sig.parameters.length) = some 2 := by decide +kernel
theorem pd_X13_copy : (parseMethodDescriptor yX13_copy.desc).map (fun sig => sig.parameters.length) = some 2 := by decide +kernel
theorem pd_X13_isArray : (parseMethodDescriptor yX13_isArray.desc).map (fun sig => sig.parameters.length) = some 1 := by decide +kernel
theorem pd_X13_handOn : (parseMethodDescriptor yX13_handOn.desc).map (fun sig => sig.parameters.length) = some 2 := by decide +kernel
theorem pd_X13_save : (parseMethodDescriptor yX13_save.desc).map (fun sig => sig.parameters.length) = some 1 := by decide +kernel
theorem pd_X13_takeBack : (parseMethodDescriptor yX13_takeBack.desc).map (fun sig => sig.parameters.length) = some 1 := by decide +kernel
theorem pd_X13_set : (parseMethodDescriptor yX13_set.desc).map (fun sig => sig.parameters.length) = some 3 := by decide +kernel
theorem pd_X13_within : (parseMethodDescriptor yX13_within.desc).map (fun sig => sig.parameters.length) = some 1 := by decide +kernel
theorem pd_X13_reckon : (parseMethodDescriptor yX13_reckon.desc).map (fun sig => sig.parameters.length) = some 4 := by decide +kernel
theorem pd_X13_compare : (parseMethodDescriptor yX13_compare.desc).map (fun sig => sig.parameters.length) = some 4 := by decide +kernel
theorem pd_X13_assign : (parseMethodDescriptor yX13_assign.desc).map (fun sig => sig.parameters.length) = some 3 := by decide +kernel
theorem pd_X13_storeElement : (parseMethodDescriptor yX13_storeElement.desc).map (fun sig => sig.parameters.length) = some 2 := by decide +kernel
theorem pd_X13_narrowed : (parseMethodDescriptor yX13_narrowed.desc).map (fun sig => sig.parameters.length) = some 3 := by decide +kernel
theorem pd_X13_count : (parseMethodDescriptor yX13_count.desc).map (fun sig => sig.parameters.length) = some 3 := by decide +kernel
theorem pd_X13_assignFromT0 : (parseMethodDescriptor yX13_assignFromT0.desc).map (fun sig => sig.parameters.length) = some 1 := by decide +kernel
theorem pd_X13_unary : (parseMethodDescriptor yX13_unary.desc).map (fun sig => sig.parameters.length) = some 3 := by decide +kernel
theorem pd_X13_choice : (parseMethodDescriptor yX13_choice.desc).map (fun sig => sig.parameters.length) = some 2 := by decide +kernel
theorem pd_X13_branch : (parseMethodDescriptor yX13_branch.desc).map (fun sig => sig.parameters.length) = some 4 := by decide +kernel
theorem pd_X13_decide : (parseMethodDescriptor yX13_decide.desc).map (fun sig => sig.parameters.length) = some 5 := by decide +kernel
theorem pd_X13_compared : (parseMethodDescriptor yX13_compared.desc).map (fun sig => sig.parameters.length) = some 4 := by decide +kernel
theorem pd_X13_truth : (parseMethodDescriptor yX13_truth.desc).map (fun sig => sig.parameters.length) = some 2 := by decide +kernel
theorem pd_X13_chain : (parseMethodDescriptor yX13_chain.desc).map (fun sig => sig.parameters.length) = some 2 := by decide +kernel
theorem pd_X13_isShort : (parseMethodDescriptor yX13_isShort.desc).map (fun sig => sig.parameters.length) = some 2 := by decide +kernel
theorem pd_X13_withNumber : (parseMethodDescriptor yX13_withNumber.desc).map (fun sig => sig.parameters.length) = some 4 := by decide +kernel
theorem pd_X13_power : (parseMethodDescriptor yX13_power.desc).map (fun sig => sig.parameters.length) = some 1 := by decide +kernel
theorem pd_X13_choosing : (parseMethodDescriptor yX13_choosing.desc).map (fun sig => sig.parameters.length) = some 1 := by decide +kernel
theorem pd_X13_looping : (parseMethodDescriptor yX13_looping.desc).map (fun sig => sig.parameters.length) = some 4 := by decide +kernel
theorem pd_X13_counting : (parseMethodDescriptor yX13_counting.desc).map (fun sig => sig.parameters.length) = some 1 := by decide +kernel
theorem pd_X13_switching : (parseMethodDescriptor yX13_switching.desc).map (fun sig => sig.parameters.length) = some 2 := by decide +kernel
theorem pd_X13_returning : (parseMethodDescriptor yX13_returning.desc).map (fun sig => sig.parameters.length) = some 1 := by decide +kernel
theorem pd_X13_finish : (parseMethodDescriptor yX13_finish.desc).map (fun sig => sig.parameters.length) = some 1 := by decide +kernel
theorem pd_X13_address_2 : (parseMethodDescriptor yX13_address_2.desc).map (fun sig => sig.parameters.length) = some 1 := by decide +kernel
theorem pd_X14_init : (parseMethodDescriptor yX14_init.desc).map (fun sig => sig.parameters.length) = some 1 := by decide +kernel
theorem pd_X14_isNumber : (parseMethodDescriptor yX14_isNumber.desc).map (fun sig => sig.parameters.length) = some 1 := by decide +kernel
theorem pd_X14_truth : (parseMethodDescriptor yX14_truth.desc).map (fun sig => sig.parameters.length) = some 1 := by decide +kernel
theorem pd_X14_told : (parseMethodDescriptor yX14_told.desc).map (fun sig => sig.parameters.length) = some 1 := by decide +kernel
theorem pd_X14_isChain : (parseMethodDescriptor yX14_isChain.desc).map (fun sig => sig.parameters.length) = some 2 := by decide +kernel
theorem pd_X14_reckon : (parseMethodDescriptor yX14_reckon.desc).map (fun sig => sig.parameters.length) = some 3 := by decide +kernel
theorem pd_X14_value : (parseMethodDescriptor yX14_value.desc).map (fun sig => sig.parameters.length) = some 0 := by decide +kernel
theorem pd_X14_changes : (parseMethodDescriptor yX14_changes.desc).map (fun sig => sig.parameters.length) = some 1 := by decide +kernel
theorem pd_X15_init : (parseMethodDescriptor yX15_init.desc).map (fun sig => sig.parameters.length) = some 2 := by decide +kernel
theorem pd_X15_find : (parseMethodDescriptor yX15_find.desc).map (fun sig => sig.parameters.length) = some 2 := by decide +kernel
theorem pd_X15_room : (parseMethodDescriptor yX15_room.desc).map (fun sig => sig.parameters.length) = some 0 := by decide +kernel
theorem pd_X15_weigh : (parseMethodDescriptor yX15_weigh.desc).map (fun sig => sig.parameters.length) = some 2 := by decide +kernel
theorem pd_X15_heaviest : (parseMethodDescriptor yX15_heaviest.desc).map (fun sig => sig.parameters.length) = some 1 := by decide +kernel
theorem pd_X15_register : (parseMethodDescriptor yX15_register.desc).map (fun sig => sig.parameters.length) = some 1 := by decide +kernel
theorem pd_X15_place : (parseMethodDescriptor yX15_place.desc).map (fun sig => sig.parameters.length) = some 2 := by decide +kernel
theorem pd_X15_isParameter : (parseMethodDescriptor yX15_isParameter.desc).map (fun sig => sig.parameters.length) = some 2 := by decide +kernel
theorem pd_X15_parameterWords : (parseMethodDescriptor yX15_parameterWords.desc).map (fun sig => sig.parameters.length) = some 0 := by decide +kernel
theorem pd_X15_used : (parseMethodDescriptor yX15_used.desc).map (fun sig => sig.parameters.length) = some 0 := by decide +kernel
theorem pd_X15_localWords : (parseMethodDescriptor yX15_localWords.desc).map (fun sig => sig.parameters.length) = some 0 := by decide +kernel
theorem pd_X15_words : (parseMethodDescriptor yX15_words.desc).map (fun sig => sig.parameters.length) = some 0 := by decide +kernel
theorem pd_X15_of : (parseMethodDescriptor yX15_of.desc).map (fun sig => sig.parameters.length) = some 1 := by decide +kernel
theorem pd_X15_place_2 : (parseMethodDescriptor yX15_place_2.desc).map (fun sig => sig.parameters.length) = some 1 := by decide +kernel
theorem pd_X15_lengthOf : (parseMethodDescriptor yX15_lengthOf.desc).map (fun sig => sig.parameters.length) = some 1 := by decide +kernel
theorem pd_X16_init : (parseMethodDescriptor yX16_init.desc).map (fun sig => sig.parameters.length) = some 0 := by decide +kernel
theorem pd_X16_run : (parseMethodDescriptor yX16_run.desc).map (fun sig => sig.parameters.length) = some 4 := by decide +kernel
theorem pd_X16_serve : (parseMethodDescriptor yX16_serve.desc).map (fun sig => sig.parameters.length) = some 2 := by decide +kernel
theorem pd_X16_write : (parseMethodDescriptor yX16_write.desc).map (fun sig => sig.parameters.length) = some 1 := by decide +kernel
theorem pd_X16_takes : (parseMethodDescriptor yX16_takes.desc).map (fun sig => sig.parameters.length) = some 0 := by decide +kernel
theorem pd_X16_answers : (parseMethodDescriptor yX16_answers.desc).map (fun sig => sig.parameters.length) = some 1 := by decide +kernel
theorem pd_X16_moves : (parseMethodDescriptor yX16_moves.desc).map (fun sig => sig.parameters.length) = some 4 := by decide +kernel
theorem pd_X17_init : (parseMethodDescriptor yX17_init.desc).map (fun sig => sig.parameters.length) = some 1 := by decide +kernel
theorem pd_X17_write : (parseMethodDescriptor yX17_write.desc).map (fun sig => sig.parameters.length) = some 2 := by decide +kernel
theorem pd_X17_has : (parseMethodDescriptor yX17_has.desc).map (fun sig => sig.parameters.length) = some 1 := by decide +kernel
theorem pd_X17_changes : (parseMethodDescriptor yX17_changes.desc).map (fun sig => sig.parameters.length) = some 0 := by decide +kernel
theorem pd_X17_forget : (parseMethodDescriptor yX17_forget.desc).map (fun sig => sig.parameters.length) = some 0 := by decide +kernel
theorem pd_X17_watch : (parseMethodDescriptor yX17_watch.desc).map (fun sig => sig.parameters.length) = some 1 := by decide +kernel
theorem pd_X17_word : (parseMethodDescriptor yX17_word.desc).map (fun sig => sig.parameters.length) = some 1 := by decide +kernel
theorem pd_X17_operation : (parseMethodDescriptor yX17_operation.desc).map (fun sig => sig.parameters.length) = some 1 := by decide +kernel
theorem pd_X17_writePart : (parseMethodDescriptor yX17_writePart.desc).map (fun sig => sig.parameters.length) = some 3 := by decide +kernel
theorem pd_X18_init : (parseMethodDescriptor yX18_init.desc).map (fun sig => sig.parameters.length) = some 0 := by decide +kernel
theorem pd_X18_due : (parseMethodDescriptor yX18_due.desc).map (fun sig => sig.parameters.length) = some 0 := by decide +kernel
theorem pd_X18_trap : (parseMethodDescriptor yX18_trap.desc).map (fun sig => sig.parameters.length) = some 4 := by decide +kernel
theorem pd_X18_set : (parseMethodDescriptor yX18_set.desc).map (fun sig => sig.parameters.length) = some 2 := by decide +kernel
theorem pd_X18_tables : (parseMethodDescriptor yX18_tables.desc).map (fun sig => sig.parameters.length) = some 0 := by decide +kernel
theorem pd_X18_sum : (parseMethodDescriptor yX18_sum.desc).map (fun sig => sig.parameters.length) = some 0 := by decide +kernel
theorem pd_X18_back : (parseMethodDescriptor yX18_back.desc).map (fun sig => sig.parameters.length) = some 0 := by decide +kernel
theorem pd_X18_returns : (parseMethodDescriptor yX18_returns.desc).map (fun sig => sig.parameters.length) = some 0 := by decide +kernel
theorem pd_X18_place : (parseMethodDescriptor yX18_place.desc).map (fun sig => sig.parameters.length) = some 1 := by decide +kernel
theorem pd_X18_get : (parseMethodDescriptor yX18_get.desc).map (fun sig => sig.parameters.length) = some 1 := by decide +kernel
theorem pd_X18_count : (parseMethodDescriptor yX18_count.desc).map (fun sig => sig.parameters.length) = some 0 := by decide +kernel
theorem pd_X19_init : (parseMethodDescriptor yX19_init.desc).map (fun sig => sig.parameters.length) = some 2 := by decide +kernel
theorem pd_X19_step : (parseMethodDescriptor yX19_step.desc).map (fun sig => sig.parameters.length) = some 0 := by decide +kernel
theorem pd_X19_trap : (parseMethodDescriptor yX19_trap.desc).map (fun sig => sig.parameters.length) = some 2 := by decide +kernel
theorem pd_X19_fetch : (parseMethodDescriptor yX19_fetch.desc).map (fun sig => sig.parameters.length) = some 0 := by decide +kernel
theorem pd_X19_find : (parseMethodDescriptor yX19_find.desc).map (fun sig => sig.parameters.length) = some 2 := by decide +kernel
theorem pd_X19_perform : (parseMethodDescriptor yX19_perform.desc).map (fun sig => sig.parameters.length) = some 2 := by decide +kernel
theorem pd_X19_special : (parseMethodDescriptor yX19_special.desc).map (fun sig => sig.parameters.length) = some 4 := by decide +kernel
theorem pd_X19_control : (parseMethodDescriptor yX19_control.desc).map (fun sig => sig.parameters.length) = some 4 := by decide +kernel
theorem pd_X19_set : (parseMethodDescriptor yX19_set.desc).map (fun sig => sig.parameters.length) = some 2 := by decide +kernel
theorem pd_X19_multiplied : (parseMethodDescriptor yX19_multiplied.desc).map (fun sig => sig.parameters.length) = some 3 := by decide +kernel
theorem pd_X19_reckoned : (parseMethodDescriptor yX19_reckoned.desc).map (fun sig => sig.parameters.length) = some 3 := by decide +kernel
theorem pd_X19_byF : (parseMethodDescriptor yX19_byF.desc).map (fun sig => sig.parameters.length) = some 3 := by decide +kernel
theorem pd_X19_store : (parseMethodDescriptor yX19_store.desc).map (fun sig => sig.parameters.length) = some 3 := by decide +kernel
theorem pd_X19_load : (parseMethodDescriptor yX19_load.desc).map (fun sig => sig.parameters.length) = some 3 := by decide +kernel
theorem pd_X19_isTaken : (parseMethodDescriptor yX19_isTaken.desc).map (fun sig => sig.parameters.length) = some 3 := by decide +kernel
theorem pd_X19_go : (parseMethodDescriptor yX19_go.desc).map (fun sig => sig.parameters.length) = some 2 := by decide +kernel
theorem pd_X2_init : (parseMethodDescriptor yX2_init.desc).map (fun sig => sig.parameters.length) = some 0 := by decide +kernel
theorem pd_X2_find : (parseMethodDescriptor yX2_find.desc).map (fun sig => sig.parameters.length) = some 3 := by decide +kernel
theorem pd_X2_is : (parseMethodDescriptor yX2_is.desc).map (fun sig => sig.parameters.length) = some 4 := by decide +kernel
theorem pd_X2_given : (parseMethodDescriptor yX2_given.desc).map (fun sig => sig.parameters.length) = some 1 := by decide +kernel
theorem pd_X2_takes : (parseMethodDescriptor yX2_takes.desc).map (fun sig => sig.parameters.length) = some 1 := by decide +kernel
theorem pd_X2_isTold : (parseMethodDescriptor yX2_isTold.desc).map (fun sig => sig.parameters.length) = some 1 := by decide +kernel
theorem pd_X20_init : (parseMethodDescriptor yX20_init.desc).map (fun sig => sig.parameters.length) = some 1 := by decide +kernel
theorem pd_X20_find : (parseMethodDescriptor yX20_find.desc).map (fun sig => sig.parameters.length) = some 5 := by decide +kernel
theorem pd_X20_access : (parseMethodDescriptor yX20_access.desc).map (fun sig => sig.parameters.length) = some 1 := by decide +kernel
theorem pd_X20_forget : (parseMethodDescriptor yX20_forget.desc).map (fun sig => sig.parameters.length) = some 0 := by decide +kernel
theorem pd_X20_walk : (parseMethodDescriptor yX20_walk.desc).map (fun sig => sig.parameters.length) = some 4 := by decide +kernel
theorem pd_X20_isGood : (parseMethodDescriptor yX20_isGood.desc).map (fun sig => sig.parameters.length) = some 4 := by decide +kernel
theorem pd_X20_page : (parseMethodDescriptor yX20_page.desc).map (fun sig => sig.parameters.length) = some 1 := by decide +kernel
theorem pd_X21_init : (parseMethodDescriptor yX21_init.desc).map (fun sig => sig.parameters.length) = some 0 := by decide +kernel
theorem pd_X21_thrown : (parseMethodDescriptor yX21_thrown.desc).map (fun sig => sig.parameters.length) = some 0 := by decide +kernel
theorem pd_X21_feed : (parseMethodDescriptor yX21_feed.desc).map (fun sig => sig.parameters.length) = some 5 := by decide +kernel
theorem pd_X21_end : (parseMethodDescriptor yX21_end.desc).map (fun sig => sig.parameters.length) = some 1 := by decide +kernel
theorem pd_X21_load : (parseMethodDescriptor yX21_load.desc).map (fun sig => sig.parameters.length) = some 0 := by decide +kernel
theorem pd_X21_readTokens : (parseMethodDescriptor yX21_readTokens.desc).map (fun sig => sig.parameters.length) = some 0 := by decide +kernel
theorem pd_X21_skip : (parseMethodDescriptor yX21_skip.desc).map (fun sig => sig.parameters.length) = some 1 := by decide +kernel
theorem pd_X21_byteAt : (parseMethodDescriptor yX21_byteAt.desc).map (fun sig => sig.parameters.length) = some 1 := by decide +kernel
theorem pd_X21_readToken : (parseMethodDescriptor yX21_readToken.desc).map (fun sig => sig.parameters.length) = some 1 := by decide +kernel
theorem pd_X21_isLetter : (parseMethodDescriptor yX21_isLetter.desc).map (fun sig => sig.parameters.length) = some 1 := by decide +kernel
theorem pd_X21_isDigit : (parseMethodDescriptor yX21_isDigit.desc).map (fun sig => sig.parameters.length) = some 1 := by decide +kernel
theorem pd_X21_keyword : (parseMethodDescriptor yX21_keyword.desc).map (fun sig => sig.parameters.length) = some 2 := by decide +kernel
theorem pd_X21_stands : (parseMethodDescriptor yX21_stands.desc).map (fun sig => sig.parameters.length) = some 2 := by decide +kernel
theorem pd_X21_token : (parseMethodDescriptor yX21_token.desc).map (fun sig => sig.parameters.length) = some 4 := by decide +kernel
theorem pd_X21_readNumber : (parseMethodDescriptor yX21_readNumber.desc).map (fun sig => sig.parameters.length) = some 1 := by decide +kernel
theorem pd_X21_figure : (parseMethodDescriptor yX21_figure.desc).map (fun sig => sig.parameters.length) = some 1 := by decide +kernel
theorem pd_X21_character : (parseMethodDescriptor yX21_character.desc).map (fun sig => sig.parameters.length) = some 2 := by decide +kernel
theorem pd_X21_readString : (parseMethodDescriptor yX21_readString.desc).map (fun sig => sig.parameters.length) = some 1 := by decide +kernel
theorem pd_X21_isText : (parseMethodDescriptor yX21_isText.desc).map (fun sig => sig.parameters.length) = some 0 := by decide +kernel
theorem pd_X21_whole : (parseMethodDescriptor yX21_whole.desc).map (fun sig => sig.parameters.length) = some 0 := by decide +kernel
theorem pd_X21_piece : (parseMethodDescriptor yX21_piece.desc).map (fun sig => sig.parameters.length) = some 0 := by decide +kernel
theorem pd_X21_isKey : (parseMethodDescriptor yX21_isKey.desc).map (fun sig => sig.parameters.length) = some 1 := by decide +kernel
theorem pd_X21_enumeration : (parseMethodDescriptor yX21_enumeration.desc).map (fun sig => sig.parameters.length) = some 0 := by decide +kernel
theorem pd_X21_make : (parseMethodDescriptor yX21_make.desc).map (fun sig => sig.parameters.length) = some 2 := by decide +kernel
theorem pd_X21_opensMark : (parseMethodDescriptor yX21_opensMark.desc).map (fun sig => sig.parameters.length) = some 1 := by decide +kernel
theorem pd_X21_is : (parseMethodDescriptor yX21_is.desc).map (fun sig => sig.parameters.length) = some 1 := by decide +kernel
theorem pd_X21_isAt : (parseMethodDescriptor yX21_isAt.desc).map (fun sig => sig.parameters.length) = some 2 := by decide +kernel
theorem pd_X21_need : (parseMethodDescriptor yX21_need.desc).map (fun sig => sig.parameters.length) = some 1 := by decide +kernel
theorem pd_X21_opens : (parseMethodDescriptor yX21_opens.desc).map (fun sig => sig.parameters.length) = some 0 := by decide +kernel
theorem pd_X21_name : (parseMethodDescriptor yX21_name.desc).map (fun sig => sig.parameters.length) = some 0 := by decide +kernel
theorem pd_X21_takes : (parseMethodDescriptor yX21_takes.desc).map (fun sig => sig.parameters.length) = some 1 := by decide +kernel
theorem pd_X21_constant : (parseMethodDescriptor yX21_constant.desc).map (fun sig => sig.parameters.length) = some 0 := by decide +kernel
theorem pd_X21_conditional : (parseMethodDescriptor yX21_conditional.desc).map (fun sig => sig.parameters.length) = some 0 := by decide +kernel
theorem pd_X21_binary : (parseMethodDescriptor yX21_binary.desc).map (fun sig => sig.parameters.length) = some 0 := by decide +kernel
theorem pd_X21_unary : (parseMethodDescriptor yX21_unary.desc).map (fun sig => sig.parameters.length) = some 0 := by decide +kernel
theorem pd_X21_isPrefix : (parseMethodDescriptor yX21_isPrefix.desc).map (fun sig => sig.parameters.length) = some 0 := by decide +kernel
theorem pd_X21_postfix : (parseMethodDescriptor yX21_postfix.desc).map (fun sig => sig.parameters.length) = some 0 := by decide +kernel
theorem pd_X21_primary : (parseMethodDescriptor yX21_primary.desc).map (fun sig => sig.parameters.length) = some 0 := by decide +kernel
theorem pd_X21_expression : (parseMethodDescriptor yX21_expression.desc).map (fun sig => sig.parameters.length) = some 0 := by decide +kernel
theorem pd_X21_isAssigning : (parseMethodDescriptor yX21_isAssigning.desc).map (fun sig => sig.parameters.length) = some 0 := by decide +kernel
theorem pd_X21_stands_2 : (parseMethodDescriptor yX21_stands_2.desc).map (fun sig => sig.parameters.length) = some 1 := by decide +kernel
theorem pd_X21_deeper : (parseMethodDescriptor yX21_deeper.desc).map (fun sig => sig.parameters.length) = some 2 := by decide +kernel
theorem pd_X21_closes : (parseMethodDescriptor yX21_closes.desc).map (fun sig => sig.parameters.length) = some 1 := by decide +kernel
theorem pd_X21_take : (parseMethodDescriptor yX21_take.desc).map (fun sig => sig.parameters.length) = some 1 := by decide +kernel
theorem pd_X21_call : (parseMethodDescriptor yX21_call.desc).map (fun sig => sig.parameters.length) = some 1 := by decide +kernel
theorem pd_X21_isNothing : (parseMethodDescriptor yX21_isNothing.desc).map (fun sig => sig.parameters.length) = some 1 := by decide +kernel
theorem pd_X21_rank : (parseMethodDescriptor yX21_rank.desc).map (fun sig => sig.parameters.length) = some 1 := by decide +kernel
theorem pd_X21_settle : (parseMethodDescriptor yX21_settle.desc).map (fun sig => sig.parameters.length) = some 1 := by decide +kernel
theorem pd_X21_hang : (parseMethodDescriptor yX21_hang.desc).map (fun sig => sig.parameters.length) = some 3 := by decide +kernel
theorem pd_X21_add : (parseMethodDescriptor yX21_add.desc).map (fun sig => sig.parameters.length) = some 1 := by decide +kernel
theorem pd_X21_isType : (parseMethodDescriptor yX21_isType.desc).map (fun sig => sig.parameters.length) = some 0 := by decide +kernel
theorem pd_X21_functionText : (parseMethodDescriptor yX21_functionText.desc).map (fun sig => sig.parameters.length) = some 2 := by decide +kernel
theorem pd_X21_parameter : (parseMethodDescriptor yX21_parameter.desc).map (fun sig => sig.parameters.length) = some 0 := by decide +kernel
theorem pd_X21_block : (parseMethodDescriptor yX21_block.desc).map (fun sig => sig.parameters.length) = some 0 := by decide +kernel
theorem pd_X21_statement : (parseMethodDescriptor yX21_statement.desc).map (fun sig => sig.parameters.length) = some 0 := by decide +kernel
theorem pd_X21_declaration : (parseMethodDescriptor yX21_declaration.desc).map (fun sig => sig.parameters.length) = some 0 := by decide +kernel
theorem pd_X21_variables : (parseMethodDescriptor yX21_variables.desc).map (fun sig => sig.parameters.length) = some 0 := by decide +kernel
theorem pd_X21_variable : (parseMethodDescriptor yX21_variable.desc).map (fun sig => sig.parameters.length) = some 0 := by decide +kernel
theorem pd_X21_arrayValue : (parseMethodDescriptor yX21_arrayValue.desc).map (fun sig => sig.parameters.length) = some 1 := by decide +kernel
theorem pd_X21_byKey : (parseMethodDescriptor yX21_byKey.desc).map (fun sig => sig.parameters.length) = some 1 := by decide +kernel
theorem pd_X21_conditioned : (parseMethodDescriptor yX21_conditioned.desc).map (fun sig => sig.parameters.length) = some 1 := by decide +kernel
theorem pd_X21_inParentheses : (parseMethodDescriptor yX21_inParentheses.desc).map (fun sig => sig.parameters.length) = some 0 := by decide +kernel
theorem pd_X21_takesKey : (parseMethodDescriptor yX21_takesKey.desc).map (fun sig => sig.parameters.length) = some 1 := by decide +kernel
theorem pd_X21_doing : (parseMethodDescriptor yX21_doing.desc).map (fun sig => sig.parameters.length) = some 0 := by decide +kernel
theorem pd_X21_forLoop : (parseMethodDescriptor yX21_forLoop.desc).map (fun sig => sig.parameters.length) = some 0 := by decide +kernel
theorem pd_X21_switching : (parseMethodDescriptor yX21_switching.desc).map (fun sig => sig.parameters.length) = some 0 := by decide +kernel
theorem pd_X21_checkText : (parseMethodDescriptor yX21_checkText.desc).map (fun sig => sig.parameters.length) = some 0 := by decide +kernel
theorem pd_X21_checkFunction : (parseMethodDescriptor yX21_checkFunction.desc).map (fun sig => sig.parameters.length) = some 1 := by decide +kernel
theorem pd_X21_findOwn : (parseMethodDescriptor yX21_findOwn.desc).map (fun sig => sig.parameters.length) = some 1 := by decide +kernel
theorem pd_X21_isNamed : (parseMethodDescriptor yX21_isNamed.desc).map (fun sig => sig.parameters.length) = some 2 := by decide +kernel
theorem pd_X21_findFunction : (parseMethodDescriptor yX21_findFunction.desc).map (fun sig => sig.parameters.length) = some 1 := by decide +kernel
theorem pd_X21_sameName : (parseMethodDescriptor yX21_sameName.desc).map (fun sig => sig.parameters.length) = some 2 := by decide +kernel
theorem pd_X21_bad : (parseMethodDescriptor yX21_bad.desc).map (fun sig => sig.parameters.length) = some 2 := by decide +kernel
theorem pd_X21_checkNew : (parseMethodDescriptor yX21_checkNew.desc).map (fun sig => sig.parameters.length) = some 1 := by decide +kernel
theorem pd_X21_find : (parseMethodDescriptor yX21_find.desc).map (fun sig => sig.parameters.length) = some 2 := by decide +kernel
theorem pd_X21_isFunction : (parseMethodDescriptor yX21_isFunction.desc).map (fun sig => sig.parameters.length) = some 1 := by decide +kernel
theorem pd_X21_lay : (parseMethodDescriptor yX21_lay.desc).map (fun sig => sig.parameters.length) = some 2 := by decide +kernel
theorem pd_X21_know : (parseMethodDescriptor yX21_know.desc).map (fun sig => sig.parameters.length) = some 4 := by decide +kernel
theorem pd_X21_statements : (parseMethodDescriptor yX21_statements.desc).map (fun sig => sig.parameters.length) = some 1 := by decide +kernel
theorem pd_X21_checkStatement : (parseMethodDescriptor yX21_checkStatement.desc).map (fun sig => sig.parameters.length) = some 1 := by decide +kernel
theorem pd_X21_checkBlock : (parseMethodDescriptor yX21_checkBlock.desc).map (fun sig => sig.parameters.length) = some 1 := by decide +kernel
theorem pd_X21_leave : (parseMethodDescriptor yX21_leave.desc).map (fun sig => sig.parameters.length) = some 2 := by decide +kernel
theorem pd_X21_checkAlone : (parseMethodDescriptor yX21_checkAlone.desc).map (fun sig => sig.parameters.length) = some 1 := by decide +kernel
theorem pd_X21_check : (parseMethodDescriptor yX21_check.desc).map (fun sig => sig.parameters.length) = some 2 := by decide +kernel
theorem pd_X21_checkName : (parseMethodDescriptor yX21_checkName.desc).map (fun sig => sig.parameters.length) = some 1 := by decide +kernel
theorem pd_X21_checkCall : (parseMethodDescriptor yX21_checkCall.desc).map (fun sig => sig.parameters.length) = some 1 := by decide +kernel
theorem pd_X21_taken : (parseMethodDescriptor yX21_taken.desc).map (fun sig => sig.parameters.length) = some 3 := by decide +kernel
theorem pd_X21_checkArgument : (parseMethodDescriptor yX21_checkArgument.desc).map (fun sig => sig.parameters.length) = some 2 := by decide +kernel
theorem pd_X21_checkConstant : (parseMethodDescriptor yX21_checkConstant.desc).map (fun sig => sig.parameters.length) = some 1 := by decide +kernel
theorem pd_X21_meet : (parseMethodDescriptor yX21_meet.desc).map (fun sig => sig.parameters.length) = some 1 := by decide +kernel
theorem pd_X21_meetName : (parseMethodDescriptor yX21_meetName.desc).map (fun sig => sig.parameters.length) = some 1 := by decide +kernel
theorem pd_X21_first : (parseMethodDescriptor yX21_first.desc).map (fun sig => sig.parameters.length) = some 1 := by decide +kernel
theorem pd_X21_reckon : (parseMethodDescriptor yX21_reckon.desc).map (fun sig => sig.parameters.length) = some 1 := by decide +kernel
theorem pd_X21_two : (parseMethodDescriptor yX21_two.desc).map (fun sig => sig.parameters.length) = some 3 := by decide +kernel
theorem pd_X21_checkIndex : (parseMethodDescriptor yX21_checkIndex.desc).map (fun sig => sig.parameters.length) = some 1 := by decide +kernel
theorem pd_X21_checkPlace : (parseMethodDescriptor yX21_checkPlace.desc).map (fun sig => sig.parameters.length) = some 2 := by decide +kernel
theorem pd_X21_declare : (parseMethodDescriptor yX21_declare.desc).map (fun sig => sig.parameters.length) = some 2 := by decide +kernel
theorem pd_X21_declareArray : (parseMethodDescriptor yX21_declareArray.desc).map (fun sig => sig.parameters.length) = some 2 := by decide +kernel
theorem pd_X21_checkBody : (parseMethodDescriptor yX21_checkBody.desc).map (fun sig => sig.parameters.length) = some 1 := by decide +kernel
theorem pd_X21_checkFor : (parseMethodDescriptor yX21_checkFor.desc).map (fun sig => sig.parameters.length) = some 1 := by decide +kernel
theorem pd_X21_checkSwitch : (parseMethodDescriptor yX21_checkSwitch.desc).map (fun sig => sig.parameters.length) = some 1 := by decide +kernel
theorem pd_X21_checkReturn : (parseMethodDescriptor yX21_checkReturn.desc).map (fun sig => sig.parameters.length) = some 1 := by decide +kernel
theorem pd_X21_measure : (parseMethodDescriptor yX21_measure.desc).map (fun sig => sig.parameters.length) = some 1 := by decide +kernel
theorem pd_X21_measureOne : (parseMethodDescriptor yX21_measureOne.desc).map (fun sig => sig.parameters.length) = some 1 := by decide +kernel
theorem pd_X21_raise : (parseMethodDescriptor yX21_raise.desc).map (fun sig => sig.parameters.length) = some 1 := by decide +kernel
theorem pd_X21_height : (parseMethodDescriptor yX21_height.desc).map (fun sig => sig.parameters.length) = some 1 := by decide +kernel
theorem pd_X21_checkEnum : (parseMethodDescriptor yX21_checkEnum.desc).map (fun sig => sig.parameters.length) = some 1 := by decide +kernel
theorem pd_X21_hasMain : (parseMethodDescriptor yX21_hasMain.desc).map (fun sig => sig.parameters.length) = some 0 := by decide +kernel
theorem pd_X21_place : (parseMethodDescriptor yX21_place.desc).map (fun sig => sig.parameters.length) = some 0 := by decide +kernel
theorem pd_X21_run : (parseMethodDescriptor yX21_run.desc).map (fun sig => sig.parameters.length) = some 3 := by decide +kernel
theorem pd_X21_setText : (parseMethodDescriptor yX21_setText.desc).map (fun sig => sig.parameters.length) = some 0 := by decide +kernel
theorem pd_X21_begin : (parseMethodDescriptor yX21_begin.desc).map (fun sig => sig.parameters.length) = some 1 := by decide +kernel
theorem pd_X21_cellOf : (parseMethodDescriptor yX21_cellOf.desc).map (fun sig => sig.parameters.length) = some 1 := by decide +kernel
theorem pd_X21_stored : (parseMethodDescriptor yX21_stored.desc).map (fun sig => sig.parameters.length) = some 2 := by decide +kernel
theorem pd_X21_isOfChar : (parseMethodDescriptor yX21_isOfChar.desc).map (fun sig => sig.parameters.length) = some 1 := by decide +kernel
theorem pd_X21_give : (parseMethodDescriptor yX21_give.desc).map (fun sig => sig.parameters.length) = some 1 := by decide +kernel
theorem pd_X21_mainFunction : (parseMethodDescriptor yX21_mainFunction.desc).map (fun sig => sig.parameters.length) = some 0 := by decide +kernel
theorem pd_X21_enter : (parseMethodDescriptor yX21_enter.desc).map (fun sig => sig.parameters.length) = some 1 := by decide +kernel
theorem pd_X21_takesWork : (parseMethodDescriptor yX21_takesWork.desc).map (fun sig => sig.parameters.length) = some 0 := by decide +kernel
theorem pd_X21_stop : (parseMethodDescriptor yX21_stop.desc).map (fun sig => sig.parameters.length) = some 1 := by decide +kernel
theorem pd_X21_isGiven : (parseMethodDescriptor yX21_isGiven.desc).map (fun sig => sig.parameters.length) = some 1 := by decide +kernel
theorem pd_X21_push : (parseMethodDescriptor yX21_push.desc).map (fun sig => sig.parameters.length) = some 1 := by decide +kernel
theorem pd_X21_step : (parseMethodDescriptor yX21_step.desc).map (fun sig => sig.parameters.length) = some 0 := by decide +kernel
theorem pd_X21_doStatement : (parseMethodDescriptor yX21_doStatement.desc).map (fun sig => sig.parameters.length) = some 2 := by decide +kernel
theorem pd_X21_doRow : (parseMethodDescriptor yX21_doRow.desc).map (fun sig => sig.parameters.length) = some 1 := by decide +kernel
theorem pd_X21_state : (parseMethodDescriptor yX21_state.desc).map (fun sig => sig.parameters.length) = some 1 := by decide +kernel
theorem pd_X21_take_2 : (parseMethodDescriptor yX21_take_2.desc).map (fun sig => sig.parameters.length) = some 0 := by decide +kernel
theorem pd_X21_doDeclare : (parseMethodDescriptor yX21_doDeclare.desc).map (fun sig => sig.parameters.length) = some 2 := by decide +kernel
theorem pd_X21_doDo : (parseMethodDescriptor yX21_doDo.desc).map (fun sig => sig.parameters.length) = some 2 := by decide +kernel
theorem pd_X21_doFor : (parseMethodDescriptor yX21_doFor.desc).map (fun sig => sig.parameters.length) = some 2 := by decide +kernel
theorem pd_X21_doSwitch : (parseMethodDescriptor yX21_doSwitch.desc).map (fun sig => sig.parameters.length) = some 2 := by decide +kernel
theorem pd_X21_doBreak : (parseMethodDescriptor yX21_doBreak.desc).map (fun sig => sig.parameters.length) = some 0 := by decide +kernel
theorem pd_X21_isLoop : (parseMethodDescriptor yX21_isLoop.desc).map (fun sig => sig.parameters.length) = some 1 := by decide +kernel
theorem pd_X21_doContinue : (parseMethodDescriptor yX21_doContinue.desc).map (fun sig => sig.parameters.length) = some 0 := by decide +kernel
theorem pd_X21_leaveCall : (parseMethodDescriptor yX21_leaveCall.desc).map (fun sig => sig.parameters.length) = some 1 := by decide +kernel
theorem pd_X21_done : (parseMethodDescriptor yX21_done.desc).map (fun sig => sig.parameters.length) = some 1 := by decide +kernel
theorem pd_X21_doCall : (parseMethodDescriptor yX21_doCall.desc).map (fun sig => sig.parameters.length) = some 2 := by decide +kernel
theorem pd_X21_isArray : (parseMethodDescriptor yX21_isArray.desc).map (fun sig => sig.parameters.length) = some 2 := by decide +kernel
theorem pd_X21_arrayAt : (parseMethodDescriptor yX21_arrayAt.desc).map (fun sig => sig.parameters.length) = some 1 := by decide +kernel
theorem pd_X21_arraySize : (parseMethodDescriptor yX21_arraySize.desc).map (fun sig => sig.parameters.length) = some 1 := by decide +kernel
theorem pd_X21_doOwn : (parseMethodDescriptor yX21_doOwn.desc).map (fun sig => sig.parameters.length) = some 1 := by decide +kernel
theorem pd_X21_write : (parseMethodDescriptor yX21_write.desc).map (fun sig => sig.parameters.length) = some 1 := by decide +kernel
theorem pd_X21_nextInput : (parseMethodDescriptor yX21_nextInput.desc).map (fun sig => sig.parameters.length) = some 0 := by decide +kernel
theorem pd_X21_moveBlock : (parseMethodDescriptor yX21_moveBlock.desc).map (fun sig => sig.parameters.length) = some 4 := by decide +kernel
theorem pd_X21_elementAt : (parseMethodDescriptor yX21_elementAt.desc).map (fun sig => sig.parameters.length) = some 2 := by decide +kernel
theorem pd_X21_doUnary : (parseMethodDescriptor yX21_doUnary.desc).map (fun sig => sig.parameters.length) = some 2 := by decide +kernel
theorem pd_X21_doStep : (parseMethodDescriptor yX21_doStep.desc).map (fun sig => sig.parameters.length) = some 3 := by decide +kernel
theorem pd_X21_placeOf : (parseMethodDescriptor yX21_placeOf.desc).map (fun sig => sig.parameters.length) = some 1 := by decide +kernel
theorem pd_X21_doChain : (parseMethodDescriptor yX21_doChain.desc).map (fun sig => sig.parameters.length) = some 2 := by decide +kernel
theorem pd_X21_doAssign : (parseMethodDescriptor yX21_doAssign.desc).map (fun sig => sig.parameters.length) = some 2 := by decide +kernel
theorem pd_X21_combined : (parseMethodDescriptor yX21_combined.desc).map (fun sig => sig.parameters.length) = some 3 := by decide +kernel
theorem pd_X21_life : (parseMethodDescriptor yX21_life.desc).map (fun sig => sig.parameters.length) = some 0 := by decide +kernel
theorem pd_X21_input : (parseMethodDescriptor yX21_input.desc).map (fun sig => sig.parameters.length) = some 1 := by decide +kernel
theorem pd_X21_value : (parseMethodDescriptor yX21_value.desc).map (fun sig => sig.parameters.length) = some 0 := by decide +kernel
theorem pd_X21_left : (parseMethodDescriptor yX21_left.desc).map (fun sig => sig.parameters.length) = some 0 := by decide +kernel
theorem pd_X21_paper : (parseMethodDescriptor yX21_paper.desc).map (fun sig => sig.parameters.length) = some 0 := by decide +kernel
theorem pd_X21_paperAt : (parseMethodDescriptor yX21_paperAt.desc).map (fun sig => sig.parameters.length) = some 1 := by decide +kernel
theorem pd_X21_inputs : (parseMethodDescriptor yX21_inputs.desc).map (fun sig => sig.parameters.length) = some 0 := by decide +kernel
theorem pd_X21_disk : (parseMethodDescriptor yX21_disk.desc).map (fun sig => sig.parameters.length) = some 1 := by decide +kernel
theorem pd_X21_setDisk : (parseMethodDescriptor yX21_setDisk.desc).map (fun sig => sig.parameters.length) = some 2 := by decide +kernel
theorem pd_X21_variable_2 : (parseMethodDescriptor yX21_variable_2.desc).map (fun sig => sig.parameters.length) = some 1 := by decide +kernel
theorem pd_X21_wordOf : (parseMethodDescriptor yX21_wordOf.desc).map (fun sig => sig.parameters.length) = some 2 := by decide +kernel
theorem pd_X22_operation : (parseMethodDescriptor yX22_operation.desc).map (fun sig => sig.parameters.length) = some 1 := by decide +kernel
theorem pd_X22_system : (parseMethodDescriptor yX22_system.desc).map (fun sig => sig.parameters.length) = some 2 := by decide +kernel
theorem pd_X22_reckoning : (parseMethodDescriptor yX22_reckoning.desc).map (fun sig => sig.parameters.length) = some 2 := by decide +kernel
theorem pd_X22_offset : (parseMethodDescriptor yX22_offset.desc).map (fun sig => sig.parameters.length) = some 1 := by decide +kernel
theorem pd_X22_jump : (parseMethodDescriptor yX22_jump.desc).map (fun sig => sig.parameters.length) = some 1 := by decide +kernel
theorem pd_X3_init : (parseMethodDescriptor yX3_init.desc).map (fun sig => sig.parameters.length) = some 0 := by decide +kernel
theorem pd_X3_clear : (parseMethodDescriptor yX3_clear.desc).map (fun sig => sig.parameters.length) = some 0 := by decide +kernel
theorem pd_X3_of : (parseMethodDescriptor yX3_of.desc).map (fun sig => sig.parameters.length) = some 3 := by decide +kernel
theorem pd_X3_is : (parseMethodDescriptor yX3_is.desc).map (fun sig => sig.parameters.length) = some 4 := by decide +kernel
theorem pd_X3_length : (parseMethodDescriptor yX3_length.desc).map (fun sig => sig.parameters.length) = some 1 := by decide +kernel
theorem pd_X3_letter : (parseMethodDescriptor yX3_letter.desc).map (fun sig => sig.parameters.length) = some 2 := by decide +kernel
theorem pd_X3_longer : (parseMethodDescriptor yX3_longer.desc).map (fun sig => sig.parameters.length) = some 1 := by decide +kernel
theorem pd_X3_count : (parseMethodDescriptor yX3_count.desc).map (fun sig => sig.parameters.length) = some 0 := by decide +kernel
theorem pd_X4_init : (parseMethodDescriptor yX4_init.desc).map (fun sig => sig.parameters.length) = some 0 := by decide +kernel
theorem pd_X4_cut : (parseMethodDescriptor yX4_cut.desc).map (fun sig => sig.parameters.length) = some 1 := by decide +kernel
theorem pd_X4_size : (parseMethodDescriptor yX4_size.desc).map (fun sig => sig.parameters.length) = some 0 := by decide +kernel
theorem pd_X4_at : (parseMethodDescriptor yX4_at.desc).map (fun sig => sig.parameters.length) = some 1 := by decide +kernel
theorem pd_X4_add : (parseMethodDescriptor yX4_add.desc).map (fun sig => sig.parameters.length) = some 1 := by decide +kernel
theorem pd_X5_init : (parseMethodDescriptor yX5_init.desc).map (fun sig => sig.parameters.length) = some 3 := by decide +kernel
theorem pd_X5_begin : (parseMethodDescriptor yX5_begin.desc).map (fun sig => sig.parameters.length) = some 1 := by decide +kernel
theorem pd_X5_next : (parseMethodDescriptor yX5_next.desc).map (fun sig => sig.parameters.length) = some 0 := by decide +kernel
theorem pd_X5_skip : (parseMethodDescriptor yX5_skip.desc).map (fun sig => sig.parameters.length) = some 0 := by decide +kernel
theorem pd_X5_look : (parseMethodDescriptor yX5_look.desc).map (fun sig => sig.parameters.length) = some 1 := by decide +kernel
theorem pd_X5_passComment : (parseMethodDescriptor yX5_passComment.desc).map (fun sig => sig.parameters.length) = some 0 := by decide +kernel
theorem pd_X5_isLetter : (parseMethodDescriptor yX5_isLetter.desc).map (fun sig => sig.parameters.length) = some 1 := by decide +kernel
theorem pd_X5_word : (parseMethodDescriptor yX5_word.desc).map (fun sig => sig.parameters.length) = some 0 := by decide +kernel
theorem pd_X5_isDigit : (parseMethodDescriptor yX5_isDigit.desc).map (fun sig => sig.parameters.length) = some 1 := by decide +kernel
theorem pd_X5_digits : (parseMethodDescriptor yX5_digits.desc).map (fun sig => sig.parameters.length) = some 0 := by decide +kernel
theorem pd_X5_figure : (parseMethodDescriptor yX5_figure.desc).map (fun sig => sig.parameters.length) = some 1 := by decide +kernel
theorem pd_X5_character : (parseMethodDescriptor yX5_character.desc).map (fun sig => sig.parameters.length) = some 0 := by decide +kernel
theorem pd_X5_quoted : (parseMethodDescriptor yX5_quoted.desc).map (fun sig => sig.parameters.length) = some 0 := by decide +kernel
theorem pd_X5_stringLength : (parseMethodDescriptor yX5_stringLength.desc).map (fun sig => sig.parameters.length) = some 0 := by decide +kernel
theorem pd_X5_mark : (parseMethodDescriptor yX5_mark.desc).map (fun sig => sig.parameters.length) = some 0 := by decide +kernel
theorem pd_X5_isHere : (parseMethodDescriptor yX5_isHere.desc).map (fun sig => sig.parameters.length) = some 1 := by decide +kernel
theorem pd_X5_token : (parseMethodDescriptor yX5_token.desc).map (fun sig => sig.parameters.length) = some 0 := by decide +kernel
theorem pd_X5_start : (parseMethodDescriptor yX5_start.desc).map (fun sig => sig.parameters.length) = some 0 := by decide +kernel
theorem pd_X5_name : (parseMethodDescriptor yX5_name.desc).map (fun sig => sig.parameters.length) = some 0 := by decide +kernel
theorem pd_X5_number : (parseMethodDescriptor yX5_number.desc).map (fun sig => sig.parameters.length) = some 0 := by decide +kernel
theorem pd_X5_string : (parseMethodDescriptor yX5_string.desc).map (fun sig => sig.parameters.length) = some 0 := by decide +kernel
theorem pd_X6_init : (parseMethodDescriptor yX6_init.desc).map (fun sig => sig.parameters.length) = some 0 := by decide +kernel
theorem pd_X6_clear : (parseMethodDescriptor yX6_clear.desc).map (fun sig => sig.parameters.length) = some 0 := by decide +kernel
theorem pd_X6_make : (parseMethodDescriptor yX6_make.desc).map (fun sig => sig.parameters.length) = some 4 := by decide +kernel
theorem pd_X6_grow : (parseMethodDescriptor yX6_grow.desc).map (fun sig => sig.parameters.length) = some 0 := by decide +kernel
theorem pd_X6_longer : (parseMethodDescriptor yX6_longer.desc).map (fun sig => sig.parameters.length) = some 1 := by decide +kernel
theorem pd_X6_kind : (parseMethodDescriptor yX6_kind.desc).map (fun sig => sig.parameters.length) = some 1 := by decide +kernel
theorem pd_X6_over : (parseMethodDescriptor yX6_over.desc).map (fun sig => sig.parameters.length) = some 3 := by decide +kernel
theorem pd_X6_hang : (parseMethodDescriptor yX6_hang.desc).map (fun sig => sig.parameters.length) = some 2 := by decide +kernel
theorem pd_X6_setPlace : (parseMethodDescriptor yX6_setPlace.desc).map (fun sig => sig.parameters.length) = some 2 := by decide +kernel
theorem pd_X6_depth : (parseMethodDescriptor yX6_depth.desc).map (fun sig => sig.parameters.length) = some 1 := by decide +kernel
theorem pd_X6_chain : (parseMethodDescriptor yX6_chain.desc).map (fun sig => sig.parameters.length) = some 4 := by decide +kernel
theorem pd_X6_setExtra : (parseMethodDescriptor yX6_setExtra.desc).map (fun sig => sig.parameters.length) = some 2 := by decide +kernel
theorem pd_X6_setOp : (parseMethodDescriptor yX6_setOp.desc).map (fun sig => sig.parameters.length) = some 2 := by decide +kernel
theorem pd_X6_first : (parseMethodDescriptor yX6_first.desc).map (fun sig => sig.parameters.length) = some 1 := by decide +kernel
theorem pd_X6_value : (parseMethodDescriptor yX6_value.desc).map (fun sig => sig.parameters.length) = some 1 := by decide +kernel
theorem pd_X6_place : (parseMethodDescriptor yX6_place.desc).map (fun sig => sig.parameters.length) = some 1 := by decide +kernel
theorem pd_X6_next : (parseMethodDescriptor yX6_next.desc).map (fun sig => sig.parameters.length) = some 1 := by decide +kernel
theorem pd_X6_op : (parseMethodDescriptor yX6_op.desc).map (fun sig => sig.parameters.length) = some 1 := by decide +kernel
theorem pd_X6_setNumber : (parseMethodDescriptor yX6_setNumber.desc).map (fun sig => sig.parameters.length) = some 2 := by decide +kernel
theorem pd_X6_children : (parseMethodDescriptor yX6_children.desc).map (fun sig => sig.parameters.length) = some 1 := by decide +kernel
theorem pd_X6_extra : (parseMethodDescriptor yX6_extra.desc).map (fun sig => sig.parameters.length) = some 1 := by decide +kernel
theorem pd_X6_setValue : (parseMethodDescriptor yX6_setValue.desc).map (fun sig => sig.parameters.length) = some 2 := by decide +kernel
theorem pd_X6_number : (parseMethodDescriptor yX6_number.desc).map (fun sig => sig.parameters.length) = some 1 := by decide +kernel
theorem pd_X7_init : (parseMethodDescriptor yX7_init.desc).map (fun sig => sig.parameters.length) = some 2 := by decide +kernel
theorem pd_X7_read : (parseMethodDescriptor yX7_read.desc).map (fun sig => sig.parameters.length) = some 0 := by decide +kernel
theorem pd_X7_is : (parseMethodDescriptor yX7_is.desc).map (fun sig => sig.parameters.length) = some 1 := by decide +kernel
theorem pd_X7_isWord : (parseMethodDescriptor yX7_isWord.desc).map (fun sig => sig.parameters.length) = some 1 := by decide +kernel
theorem pd_X7_enumeration : (parseMethodDescriptor yX7_enumeration.desc).map (fun sig => sig.parameters.length) = some 0 := by decide +kernel
theorem pd_X7_bracket : (parseMethodDescriptor yX7_bracket.desc).map (fun sig => sig.parameters.length) = some 1 := by decide +kernel
theorem pd_X7_need : (parseMethodDescriptor yX7_need.desc).map (fun sig => sig.parameters.length) = some 1 := by decide +kernel
theorem pd_X7_opens : (parseMethodDescriptor yX7_opens.desc).map (fun sig => sig.parameters.length) = some 0 := by decide +kernel
theorem pd_X7_name : (parseMethodDescriptor yX7_name.desc).map (fun sig => sig.parameters.length) = some 0 := by decide +kernel
theorem pd_X7_takes : (parseMethodDescriptor yX7_takes.desc).map (fun sig => sig.parameters.length) = some 1 := by decide +kernel
theorem pd_X7_constant : (parseMethodDescriptor yX7_constant.desc).map (fun sig => sig.parameters.length) = some 0 := by decide +kernel
theorem pd_X7_choice : (parseMethodDescriptor yX7_choice.desc).map (fun sig => sig.parameters.length) = some 0 := by decide +kernel
theorem pd_X7_operand : (parseMethodDescriptor yX7_operand.desc).map (fun sig => sig.parameters.length) = some 0 := by decide +kernel
theorem pd_X7_isUnary : (parseMethodDescriptor yX7_isUnary.desc).map (fun sig => sig.parameters.length) = some 0 := by decide +kernel
theorem pd_X7_primary : (parseMethodDescriptor yX7_primary.desc).map (fun sig => sig.parameters.length) = some 0 := by decide +kernel
theorem pd_X7_expression : (parseMethodDescriptor yX7_expression.desc).map (fun sig => sig.parameters.length) = some 0 := by decide +kernel
theorem pd_X7_isSet : (parseMethodDescriptor yX7_isSet.desc).map (fun sig => sig.parameters.length) = some 0 := by decide +kernel
theorem pd_X7_shallow : (parseMethodDescriptor yX7_shallow.desc).map (fun sig => sig.parameters.length) = some 1 := by decide +kernel
theorem pd_X7_choiceBehind : (parseMethodDescriptor yX7_choiceBehind.desc).map (fun sig => sig.parameters.length) = some 3 := by decide +kernel
theorem pd_X7_operation : (parseMethodDescriptor yX7_operation.desc).map (fun sig => sig.parameters.length) = some 2 := by decide +kernel
theorem pd_X7_rank : (parseMethodDescriptor yX7_rank.desc).map (fun sig => sig.parameters.length) = some 1 := by decide +kernel
theorem pd_X7_settle : (parseMethodDescriptor yX7_settle.desc).map (fun sig => sig.parameters.length) = some 2 := by decide +kernel
theorem pd_X7_take : (parseMethodDescriptor yX7_take.desc).map (fun sig => sig.parameters.length) = some 1 := by decide +kernel
theorem pd_X7_closes : (parseMethodDescriptor yX7_closes.desc).map (fun sig => sig.parameters.length) = some 1 := by decide +kernel
theorem pd_X7_call : (parseMethodDescriptor yX7_call.desc).map (fun sig => sig.parameters.length) = some 2 := by decide +kernel
theorem pd_X7_declaration : (parseMethodDescriptor yX7_declaration.desc).map (fun sig => sig.parameters.length) = some 0 := by decide +kernel
theorem pd_X7_function : (parseMethodDescriptor yX7_function.desc).map (fun sig => sig.parameters.length) = some 3 := by decide +kernel
theorem pd_X7_takesWord : (parseMethodDescriptor yX7_takesWord.desc).map (fun sig => sig.parameters.length) = some 1 := by decide +kernel
theorem pd_X7_parameter : (parseMethodDescriptor yX7_parameter.desc).map (fun sig => sig.parameters.length) = some 0 := by decide +kernel
theorem pd_X7_block : (parseMethodDescriptor yX7_block.desc).map (fun sig => sig.parameters.length) = some 0 := by decide +kernel
theorem pd_X7_statement : (parseMethodDescriptor yX7_statement.desc).map (fun sig => sig.parameters.length) = some 0 := by decide +kernel
theorem pd_X7_isDeclaration : (parseMethodDescriptor yX7_isDeclaration.desc).map (fun sig => sig.parameters.length) = some 0 := by decide +kernel
theorem pd_X7_variables : (parseMethodDescriptor yX7_variables.desc).map (fun sig => sig.parameters.length) = some 0 := by decide +kernel
theorem pd_X7_variable : (parseMethodDescriptor yX7_variable.desc).map (fun sig => sig.parameters.length) = some 2 := by decide +kernel
theorem pd_X7_string : (parseMethodDescriptor yX7_string.desc).map (fun sig => sig.parameters.length) = some 0 := by decide +kernel
theorem pd_X7_list : (parseMethodDescriptor yX7_list.desc).map (fun sig => sig.parameters.length) = some 0 := by decide +kernel
theorem pd_X7_choosing : (parseMethodDescriptor yX7_choosing.desc).map (fun sig => sig.parameters.length) = some 1 := by decide +kernel
theorem pd_X7_condition : (parseMethodDescriptor yX7_condition.desc).map (fun sig => sig.parameters.length) = some 0 := by decide +kernel
theorem pd_X7_looping : (parseMethodDescriptor yX7_looping.desc).map (fun sig => sig.parameters.length) = some 1 := by decide +kernel
theorem pd_X7_doing : (parseMethodDescriptor yX7_doing.desc).map (fun sig => sig.parameters.length) = some 1 := by decide +kernel
theorem pd_X7_counting : (parseMethodDescriptor yX7_counting.desc).map (fun sig => sig.parameters.length) = some 1 := by decide +kernel
theorem pd_X7_empty : (parseMethodDescriptor yX7_empty.desc).map (fun sig => sig.parameters.length) = some 0 := by decide +kernel
theorem pd_X7_switching : (parseMethodDescriptor yX7_switching.desc).map (fun sig => sig.parameters.length) = some 1 := by decide +kernel
theorem pd_X7_part : (parseMethodDescriptor yX7_part.desc).map (fun sig => sig.parameters.length) = some 0 := by decide +kernel
theorem pd_X7_returning : (parseMethodDescriptor yX7_returning.desc).map (fun sig => sig.parameters.length) = some 1 := by decide +kernel
theorem pd_X8_init : (parseMethodDescriptor yX8_init.desc).map (fun sig => sig.parameters.length) = some 3 := by decide +kernel
theorem pd_X8_variables : (parseMethodDescriptor yX8_variables.desc).map (fun sig => sig.parameters.length) = some 0 := by decide +kernel
theorem pd_X8_clear : (parseMethodDescriptor yX8_clear.desc).map (fun sig => sig.parameters.length) = some 0 := by decide +kernel
theorem pd_X8_check : (parseMethodDescriptor yX8_check.desc).map (fun sig => sig.parameters.length) = some 3 := by decide +kernel
theorem pd_X8_nameOf : (parseMethodDescriptor yX8_nameOf.desc).map (fun sig => sig.parameters.length) = some 1 := by decide +kernel
theorem pd_X8_know : (parseMethodDescriptor yX8_know.desc).map (fun sig => sig.parameters.length) = some 1 := by decide +kernel
theorem pd_X8_part : (parseMethodDescriptor yX8_part.desc).map (fun sig => sig.parameters.length) = some 1 := by decide +kernel
theorem pd_X8_constant : (parseMethodDescriptor yX8_constant.desc).map (fun sig => sig.parameters.length) = some 1 := by decide +kernel
theorem pd_X8_isTold : (parseMethodDescriptor yX8_isTold.desc).map (fun sig => sig.parameters.length) = some 1 := by decide +kernel
theorem pd_X8_number : (parseMethodDescriptor yX8_number.desc).map (fun sig => sig.parameters.length) = some 1 := by decide +kernel
theorem pd_X8_typeOf : (parseMethodDescriptor yX8_typeOf.desc).map (fun sig => sig.parameters.length) = some 1 := by decide +kernel
theorem pd_X8_typeOfName : (parseMethodDescriptor yX8_typeOfName.desc).map (fun sig => sig.parameters.length) = some 1 := by decide +kernel
theorem pd_X8_typeOfVariable : (parseMethodDescriptor yX8_typeOfVariable.desc).map (fun sig => sig.parameters.length) = some 2 := by decide +kernel
theorem pd_X8_typeOfCall : (parseMethodDescriptor yX8_typeOfCall.desc).map (fun sig => sig.parameters.length) = some 1 := by decide +kernel
theorem pd_X8_typeOfGiven : (parseMethodDescriptor yX8_typeOfGiven.desc).map (fun sig => sig.parameters.length) = some 2 := by decide +kernel
theorem pd_X8_argument : (parseMethodDescriptor yX8_argument.desc).map (fun sig => sig.parameters.length) = some 2 := by decide +kernel
theorem pd_X8_typeOfOwn : (parseMethodDescriptor yX8_typeOfOwn.desc).map (fun sig => sig.parameters.length) = some 2 := by decide +kernel
theorem pd_X8_typeOfIndex : (parseMethodDescriptor yX8_typeOfIndex.desc).map (fun sig => sig.parameters.length) = some 1 := by decide +kernel
theorem pd_X8_target : (parseMethodDescriptor yX8_target.desc).map (fun sig => sig.parameters.length) = some 1 := by decide +kernel
theorem pd_X8_sortOf : (parseMethodDescriptor yX8_sortOf.desc).map (fun sig => sig.parameters.length) = some 1 := by decide +kernel
theorem pd_X8_valueOf : (parseMethodDescriptor yX8_valueOf.desc).map (fun sig => sig.parameters.length) = some 1 := by decide +kernel
theorem pd_X8_valueOfChain : (parseMethodDescriptor yX8_valueOfChain.desc).map (fun sig => sig.parameters.length) = some 1 := by decide +kernel
theorem pd_X8_reckon : (parseMethodDescriptor yX8_reckon.desc).map (fun sig => sig.parameters.length) = some 3 := by decide +kernel
theorem pd_X8_truth : (parseMethodDescriptor yX8_truth.desc).map (fun sig => sig.parameters.length) = some 1 := by decide +kernel
theorem pd_X8_divide : (parseMethodDescriptor yX8_divide.desc).map (fun sig => sig.parameters.length) = some 3 := by decide +kernel
theorem pd_X8_declare : (parseMethodDescriptor yX8_declare.desc).map (fun sig => sig.parameters.length) = some 4 := by decide +kernel
theorem pd_X8_variables_2 : (parseMethodDescriptor yX8_variables_2.desc).map (fun sig => sig.parameters.length) = some 1 := by decide +kernel
theorem pd_X8_variable : (parseMethodDescriptor yX8_variable.desc).map (fun sig => sig.parameters.length) = some 2 := by decide +kernel
theorem pd_X8_fill : (parseMethodDescriptor yX8_fill.desc).map (fun sig => sig.parameters.length) = some 3 := by decide +kernel
theorem pd_X8_told : (parseMethodDescriptor yX8_told.desc).map (fun sig => sig.parameters.length) = some 1 := by decide +kernel
theorem pd_X8_function : (parseMethodDescriptor yX8_function.desc).map (fun sig => sig.parameters.length) = some 1 := by decide +kernel
theorem pd_X8_statements : (parseMethodDescriptor yX8_statements.desc).map (fun sig => sig.parameters.length) = some 1 := by decide +kernel
theorem pd_X8_statement : (parseMethodDescriptor yX8_statement.desc).map (fun sig => sig.parameters.length) = some 1 := by decide +kernel
theorem pd_X8_anything : (parseMethodDescriptor yX8_anything.desc).map (fun sig => sig.parameters.length) = some 1 := by decide +kernel
theorem pd_X8_body : (parseMethodDescriptor yX8_body.desc).map (fun sig => sig.parameters.length) = some 1 := by decide +kernel
theorem pd_X8_counting : (parseMethodDescriptor yX8_counting.desc).map (fun sig => sig.parameters.length) = some 1 := by decide +kernel
theorem pd_X8_switching : (parseMethodDescriptor yX8_switching.desc).map (fun sig => sig.parameters.length) = some 1 := by decide +kernel
theorem pd_X8_isTwice : (parseMethodDescriptor yX8_isTwice.desc).map (fun sig => sig.parameters.length) = some 2 := by decide +kernel
theorem pd_X8_leaving : (parseMethodDescriptor yX8_leaving.desc).map (fun sig => sig.parameters.length) = some 1 := by decide +kernel
theorem pd_X8_tallest : (parseMethodDescriptor yX8_tallest.desc).map (fun sig => sig.parameters.length) = some 1 := by decide +kernel
theorem pd_X8_height : (parseMethodDescriptor yX8_height.desc).map (fun sig => sig.parameters.length) = some 1 := by decide +kernel
theorem pd_X8_isArray : (parseMethodDescriptor yX8_isArray.desc).map (fun sig => sig.parameters.length) = some 1 := by decide +kernel
theorem pd_X8_whole : (parseMethodDescriptor yX8_whole.desc).map (fun sig => sig.parameters.length) = some 1 := by decide +kernel
theorem pd_X8_isMain : (parseMethodDescriptor yX8_isMain.desc).map (fun sig => sig.parameters.length) = some 1 := by decide +kernel
theorem pd_X8_frame : (parseMethodDescriptor yX8_frame.desc).map (fun sig => sig.parameters.length) = some 1 := by decide +kernel
theorem pd_X8_wrong : (parseMethodDescriptor yX8_wrong.desc).map (fun sig => sig.parameters.length) = some 0 := by decide +kernel
theorem pd_X8_main : (parseMethodDescriptor yX8_main.desc).map (fun sig => sig.parameters.length) = some 0 := by decide +kernel
theorem pd_X8_count : (parseMethodDescriptor yX8_count.desc).map (fun sig => sig.parameters.length) = some 0 := by decide +kernel
theorem pd_X8_node : (parseMethodDescriptor yX8_node.desc).map (fun sig => sig.parameters.length) = some 1 := by decide +kernel
theorem pd_X9_init : (parseMethodDescriptor yX9_init.desc).map (fun sig => sig.parameters.length) = some 0 := by decide +kernel
theorem pd_X9_clear : (parseMethodDescriptor yX9_clear.desc).map (fun sig => sig.parameters.length) = some 0 := by decide +kernel
theorem pd_X9_say : (parseMethodDescriptor yX9_say.desc).map (fun sig => sig.parameters.length) = some 2 := by decide +kernel
theorem pd_X9_number : (parseMethodDescriptor yX9_number.desc).map (fun sig => sig.parameters.length) = some 0 := by decide +kernel
theorem pd_X9_place : (parseMethodDescriptor yX9_place.desc).map (fun sig => sig.parameters.length) = some 0 := by decide +kernel
theorem np_X0 : RX0 ≠ "java/lang/invoke/MethodHandle" ∧ RX0 ≠ "java/lang/invoke/VarHandle" := ⟨by decide +kernel, by decide +kernel⟩
theorem pl_X0 : plainName RX0 = true := by decide +kernel
theorem np_X1 : RX1 ≠ "java/lang/invoke/MethodHandle" ∧ RX1 ≠ "java/lang/invoke/VarHandle" := ⟨by decide +kernel, by decide +kernel⟩
theorem pl_X1 : plainName RX1 = true := by decide +kernel
theorem np_X2 : RX2 ≠ "java/lang/invoke/MethodHandle" ∧ RX2 ≠ "java/lang/invoke/VarHandle" := ⟨by decide +kernel, by decide +kernel⟩
theorem pl_X2 : plainName RX2 = true := by decide +kernel
theorem np_X3 : RX3 ≠ "java/lang/invoke/MethodHandle" ∧ RX3 ≠ "java/lang/invoke/VarHandle" := ⟨by decide +kernel, by decide +kernel⟩
theorem pl_X3 : plainName RX3 = true := by decide +kernel
theorem np_X4 : RX4 ≠ "java/lang/invoke/MethodHandle" ∧ RX4 ≠ "java/lang/invoke/VarHandle" := ⟨by decide +kernel, by decide +kernel⟩
theorem pl_X4 : plainName RX4 = true := by decide +kernel
theorem np_X5 : RX5 ≠ "java/lang/invoke/MethodHandle" ∧ RX5 ≠ "java/lang/invoke/VarHandle" := ⟨by decide +kernel, by decide +kernel⟩
theorem pl_X5 : plainName RX5 = true := by decide +kernel
theorem np_X6 : RX6 ≠ "java/lang/invoke/MethodHandle" ∧ RX6 ≠ "java/lang/invoke/VarHandle" := ⟨by decide +kernel, by decide +kernel⟩
theorem pl_X6 : plainName RX6 = true := by decide +kernel
theorem np_X7 : RX7 ≠ "java/lang/invoke/MethodHandle" ∧ RX7 ≠ "java/lang/invoke/VarHandle" := ⟨by decide +kernel, by decide +kernel⟩
theorem pl_X7 : plainName RX7 = true := by decide +kernel
theorem np_X8 : RX8 ≠ "java/lang/invoke/MethodHandle" ∧ RX8 ≠ "java/lang/invoke/VarHandle" := ⟨by decide +kernel, by decide +kernel⟩
theorem pl_X8 : plainName RX8 = true := by decide +kernel
theorem np_X9 : RX9 ≠ "java/lang/invoke/MethodHandle" ∧ RX9 ≠ "java/lang/invoke/VarHandle" := ⟨by decide +kernel, by decide +kernel⟩
theorem pl_X9 : plainName RX9 = true := by decide +kernel
theorem np_X10 : RX10 ≠ "java/lang/invoke/MethodHandle" ∧ RX10 ≠ "java/lang/invoke/VarHandle" := ⟨by decide +kernel, by decide +kernel⟩
theorem pl_X10 : plainName RX10 = true := by decide +kernel
theorem np_X11 : RX11 ≠ "java/lang/invoke/MethodHandle" ∧ RX11 ≠ "java/lang/invoke/VarHandle" := ⟨by decide +kernel, by decide +kernel⟩
theorem pl_X11 : plainName RX11 = true := by decide +kernel
theorem np_X12 : RX12 ≠ "java/lang/invoke/MethodHandle" ∧ RX12 ≠ "java/lang/invoke/VarHandle" := ⟨by decide +kernel, by decide +kernel⟩
theorem pl_X12 : plainName RX12 = true := by decide +kernel
theorem np_X13 : RX13 ≠ "java/lang/invoke/MethodHandle" ∧ RX13 ≠ "java/lang/invoke/VarHandle" := ⟨by decide +kernel, by decide +kernel⟩
theorem pl_X13 : plainName RX13 = true := by decide +kernel
theorem np_X14 : RX14 ≠ "java/lang/invoke/MethodHandle" ∧ RX14 ≠ "java/lang/invoke/VarHandle" := ⟨by decide +kernel, by decide +kernel⟩
theorem pl_X14 : plainName RX14 = true := by decide +kernel
theorem np_X15 : RX15 ≠ "java/lang/invoke/MethodHandle" ∧ RX15 ≠ "java/lang/invoke/VarHandle" := ⟨by decide +kernel, by decide +kernel⟩
theorem pl_X15 : plainName RX15 = true := by decide +kernel
theorem np_X16 : RX16 ≠ "java/lang/invoke/MethodHandle" ∧ RX16 ≠ "java/lang/invoke/VarHandle" := ⟨by decide +kernel, by decide +kernel⟩
theorem pl_X16 : plainName RX16 = true := by decide +kernel
theorem np_X17 : RX17 ≠ "java/lang/invoke/MethodHandle" ∧ RX17 ≠ "java/lang/invoke/VarHandle" := ⟨by decide +kernel, by decide +kernel⟩
theorem pl_X17 : plainName RX17 = true := by decide +kernel
theorem np_X18 : RX18 ≠ "java/lang/invoke/MethodHandle" ∧ RX18 ≠ "java/lang/invoke/VarHandle" := ⟨by decide +kernel, by decide +kernel⟩
theorem pl_X18 : plainName RX18 = true := by decide +kernel
theorem np_X19 : RX19 ≠ "java/lang/invoke/MethodHandle" ∧ RX19 ≠ "java/lang/invoke/VarHandle" := ⟨by decide +kernel, by decide +kernel⟩
theorem pl_X19 : plainName RX19 = true := by decide +kernel
theorem np_X20 : RX20 ≠ "java/lang/invoke/MethodHandle" ∧ RX20 ≠ "java/lang/invoke/VarHandle" := ⟨by decide +kernel, by decide +kernel⟩
theorem pl_X20 : plainName RX20 = true := by decide +kernel
theorem np_X21 : RX21 ≠ "java/lang/invoke/MethodHandle" ∧ RX21 ≠ "java/lang/invoke/VarHandle" := ⟨by decide +kernel, by decide +kernel⟩
theorem pl_X21 : plainName RX21 = true := by decide +kernel
theorem np_X22 : RX22 ≠ "java/lang/invoke/MethodHandle" ∧ RX22 ≠ "java/lang/invoke/VarHandle" := ⟨by decide +kernel, by decide +kernel⟩
theorem pl_X22 : plainName RX22 = true := by decide +kernel
theorem np_J5 : RJ5 ≠ "java/lang/invoke/MethodHandle" ∧ RJ5 ≠ "java/lang/invoke/VarHandle" := ⟨by decide +kernel, by decide +kernel⟩
theorem pl_J5 : plainName RJ5 = true := by decide +kernel
theorem np_J6 : RJ6 ≠ "java/lang/invoke/MethodHandle" ∧ RJ6 ≠ "java/lang/invoke/VarHandle" := ⟨by decide +kernel, by decide +kernel⟩
theorem pl_J6 : plainName RJ6 = true := by decide +kernel
theorem np_J7 : RJ7 ≠ "java/lang/invoke/MethodHandle" ∧ RJ7 ≠ "java/lang/invoke/VarHandle" := ⟨by decide +kernel, by decide +kernel⟩
theorem pl_J7 : plainName RJ7 = true := by decide +kernel
