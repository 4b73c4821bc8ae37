/-! ===== the store and its world ===== -/
/-- whole numbers in fields; lengths of arrays in fields; what those arrays hold; cells and slots that may still be made -/
abbrev hc_St : Type := (Nat → Nat → Int32) × (Nat → Nat → Nat) × (Nat → Nat → Nat → Int32) × Nat × Nat
/-- objects; the class of each; how many fields; a field's kind (0 a number, 1 2 3 an array of int, byte, boolean, 4 of String, 5 an object, 6 an object or null, 7 an array of long); which object; all fields that hold arrays -/
abbrev hc_G : Type := Nat × (Nat → Nat) × (Nat → Nat) × (Nat → Nat → Nat) × (Nat → Nat → Nat) × List (Nat × Nat)
/-- classes and slots; addresses of the objects; the arrays' classes by kind; the Strings and their bytes -/
abbrev hc_E : Type := va_G × (Nat → Nat) × (Nat → ClassId) × (Nat → Nat) × (Nat → Nat)
/-- an array under way: its address, kind, length, contents -/
abbrev hc_T : Type := List (Nat × Nat × Nat × (Nat → Int32))
def hc_up2 {α : Type} (f : Nat → Nat → α) (o k : Nat) (v : α) : Nat → Nat → α := fun i j => if i = o ∧ j = k then v else f i j
theorem hc_up2_s {α : Type} (f : Nat → Nat → α) (o k : Nat) (v : α) : hc_up2 f o k v o k = v := by simp [hc_up2]
theorem hc_up2_n {α : Type} (f : Nat → Nat → α) (o k : Nat) (v : α) {i j : Nat} (h : ¬ (i = o ∧ j = k)) : hc_up2 f o k v i j = f i j := by simp [hc_up2, h]
/-- reading: a number of a field, an array's length, one of its numbers -/
def gI (σ : hc_St) (o f : Nat) : Int32 := σ.1 o f
def gL (σ : hc_St) (o f : Nat) : Nat := σ.2.1 o f
def gC (σ : hc_St) (o f : Nat) (i : Int32) : Int32 := σ.2.2.1 o f i.toNatClampNeg
/-- a number becomes a field's; one of an array's; a new array becomes a field's; room is used -/
def pI (σ : hc_St) (o f : Nat) (v : Int32) : hc_St := (hc_up2 σ.1 o f v, σ.2)
def pC (σ : hc_St) (o f : Nat) (i v : Int32) : hc_St := (σ.1, σ.2.1, hc_up2 σ.2.2.1 o f (upd (σ.2.2.1 o f) i.toNatClampNeg v), σ.2.2.2)
def pA (σ : hc_St) (o f n : Nat) (g : Nat → Int32) : hc_St := (σ.1, hc_up2 σ.2.1 o f n, hc_up2 σ.2.2.1 o f g, σ.2.2.2)
def pU (σ : hc_St) (k n : Nat) : hc_St := (σ.1, σ.2.1, σ.2.2.1, σ.2.2.2.1 - k, σ.2.2.2.2 - n)
/-- an index within an array -/
def inb (i : Int32) (n : Nat) : Bool := !(decide (i < 0) || decide (n ≤ i.toNatClampNeg))
theorem inb_in {i : Int32} {n : Nat} (h : inb i n = true) : vp_in i n := by
  simp only [inb, Bool.not_eq_true', Bool.or_eq_false_iff, decide_eq_false_iff_not] at h
  rintro (a | a)
  · exact h.1 a
  · exact h.2 a
def hc_nk (k : Nat) (x : Int32) : Int32 := match k with
  | 2 => x.toInt8.toInt32
  | 3 => vp_nar .boolean x
  | _ => x
def hc_ac (E : hc_E) (k n : Nat) (g : Nat → Int32) : ClassId × vp_A := match k with
  | 4 => (E.2.2.1 4, (n, .inr (.inr (.inr (.inr (fun i => some (E.2.2.2.1 (g i).toNatClampNeg)))))))
  | 7 => (E.2.2.1 7, (n, .inr (.inl (fun i => (g i).toInt64))))
  | k => (E.2.2.1 k, (n, .inl (fun i => hc_nk k (g i))))
def hc_fv (G : hc_G) (E : hc_E) (σ : hc_St) (am : Nat → Nat → Nat) (o f : Nat) : Value := match G.2.2.2.1 o f with
  | 0 => .int (σ.1 o f)
  | 5 => .ref (E.2.1 (G.2.2.2.2.1 o f))
  | 6 => if σ.1 o f = 0 then .null else .ref (E.2.1 (G.2.2.2.2.1 o f))
  | _ => .ref (am o f)
/-- the kinds of arrays -/
def hc_ak (k : Nat) : Bool := !(k == 0 || k == 5 || k == 6)
theorem hc_fvI {G : hc_G} {E : hc_E} {σ : hc_St} {am : Nat → Nat → Nat} {o f : Nat} (h : G.2.2.2.1 o f = 0) : hc_fv G E σ am o f = .int (gI σ o f) := by simp only [hc_fv, h, gI]
theorem hc_fvO {G : hc_G} {E : hc_E} {σ : hc_St} {am : Nat → Nat → Nat} {o f k : Nat} (h : G.2.2.2.1 o f = 5) (hk : G.2.2.2.2.1 o f = k) : hc_fv G E σ am o f = .ref (E.2.1 k) := by subst hk; simp only [hc_fv, h]
theorem hc_fv6 {G : hc_G} {E : hc_E} {σ : hc_St} {am : Nat → Nat → Nat} {o f k : Nat} (h : G.2.2.2.1 o f = 6) (hk : G.2.2.2.2.1 o f = k) (hn : gI σ o f ≠ 0) : hc_fv G E σ am o f = .ref (E.2.1 k) := by
  subst hk
  have hn : ¬ σ.1 o f = 0 := hn
  simp only [hc_fv, h, if_neg hn]
theorem hc_fvA {G : hc_G} {E : hc_E} {σ : hc_St} {am : Nat → Nat → Nat} {o f : Nat} (h : hc_ak (G.2.2.2.1 o f) = true) : hc_fv G E σ am o f = .ref (am o f) := by
  unfold hc_fv
  split
  · rename_i h1; rw [h1] at h; cases h
  · rename_i h1; rw [h1] at h; cases h
  · rename_i h1; rw [h1] at h; cases h
  · rfl
def hc_ae (G : hc_G) (E : hc_E) (σ : hc_St) (o f : Nat) : ClassId × vp_A := hc_ac E (G.2.2.2.1 o f) (σ.2.1 o f) (σ.2.2.1 o f)
def hc_fs (G : hc_G) (E : hc_E) (σ : hc_St) (am : Nat → Nat → Nat) (o : Nat) : List Value := (List.range (G.2.2.1 o)).map (hc_fv G E σ am o)
def hc_tw (E : hc_E) (tm : hc_T) : va_W := tm.map fun q => (q.1, Sum.inl (hc_ac E q.2.1 q.2.2.1 q.2.2.2))
def hc_ob (G : hc_G) (E : hc_E) (σ : hc_St) (am : Nat → Nat → Nat) : va_W := (List.range G.1).map fun o => (E.2.1 o, Sum.inr (G.2.1 o, hc_fs G E σ am o))
def hc_ar (G : hc_G) (E : hc_E) (σ : hc_St) (am : Nat → Nat → Nat) : va_W := G.2.2.2.2.2.map fun q => (am q.1 q.2, Sum.inl (hc_ae G E σ q.1 q.2))
def hc_ws (G : hc_G) (E : hc_E) (σ : hc_St) (am : Nat → Nat → Nat) (tm : hc_T) : va_W := hc_ob G E σ am ++ (hc_ar G E σ am ++ hc_tw E tm)
def hc_tys (E : hc_E) : List (ClassId × FieldType) := [(E.2.2.1 1, .int), (E.2.2.1 2, .byte), (E.2.2.1 3, .boolean), (E.2.2.1 4, .object "java/lang/String"), (E.2.2.1 7, .long)]
theorem hc_g2 {α : Type} {a b c : List α} {j n : Nat} (hn : a.length = n) (h : ¬ j < n) (h2 : j < n + b.length) : (a ++ (b ++ c))[j]? = b[j - n]? := by
  subst hn
  rw [List.getElem?_append_right (by omega), List.getElem?_append_left (by omega)]
theorem hc_g3 {α : Type} {a b : List α} {j n : Nat} (hn : a.length = n) (h2 : ¬ j < n + b.length) : (a ++ (b ++ []))[j]? = none := by
  subst hn
  rw [List.getElem?_append_right (by omega), List.append_nil, List.getElem?_eq_none (by omega)]
section HCG
variable {G : hc_G} {E : hc_E} {σ : hc_St} {am : Nat → Nat → Nat} {tm : hc_T}
theorem hc_ob_len : (hc_ob G E σ am).length = G.1 := by simp [hc_ob]
theorem hc_ar_len : (hc_ar G E σ am).length = G.2.2.2.2.2.length := by simp [hc_ar]
theorem hc_ob_at {o : Nat} (h : o < G.1) : (hc_ob G E σ am)[o]? = some (E.2.1 o, Sum.inr (G.2.1 o, hc_fs G E σ am o)) := by simp [hc_ob, h]
theorem hc_ar_at {k o f : Nat} (h : G.2.2.2.2.2[k]? = some (o, f)) : (hc_ar G E σ am)[k]? = some (am o f, Sum.inl (hc_ae G E σ o f)) := by simp [hc_ar, h]
theorem hc_ws_o {o : Nat} (h : o < G.1) : (hc_ws G E σ am tm)[o]? = some (E.2.1 o, Sum.inr (G.2.1 o, hc_fs G E σ am o)) := by
  unfold hc_ws
  rw [List.getElem?_append_left (by rw [hc_ob_len]; exact h), hc_ob_at h]
theorem hc_ws_a {k o f : Nat} (h : G.2.2.2.2.2[k]? = some (o, f)) : (hc_ws G E σ am tm)[G.1 + k]? = some (am o f, Sum.inl (hc_ae G E σ o f)) := by
  have hl : k < G.2.2.2.2.2.length := (List.getElem?_eq_some_iff.mp h).1
  unfold hc_ws
  rw [List.getElem?_append_right (by rw [hc_ob_len]; omega), hc_ob_len, show G.1 + k - G.1 = k by omega, List.getElem?_append_left (by rw [hc_ar_len]; exact hl), hc_ar_at h]
theorem hc_ws_t {q : Nat × Nat × Nat × (Nat → Int32)} : (hc_ws G E σ am (q :: tm))[G.1 + G.2.2.2.2.2.length]? = some (q.1, Sum.inl (hc_ac E q.2.1 q.2.2.1 q.2.2.2)) := by
  unfold hc_ws
  rw [List.getElem?_append_right (by rw [hc_ob_len]; omega), hc_ob_len, List.getElem?_append_right (by rw [hc_ar_len]; omega), hc_ar_len, show G.1 + G.2.2.2.2.2.length - G.1 - G.2.2.2.2.2.length = 0 by omega]
  rfl
theorem hc_fs_at {o f : Nat} (h : f < G.2.2.1 o) : (hc_fs G E σ am o)[f]? = some (hc_fv G E σ am o f) := by
  simp [hc_fs, h]
theorem hc_fs_len {o : Nat} : (hc_fs G E σ am o).length = G.2.2.1 o := by simp [hc_fs]
theorem hc_fs_set {σ' : hc_St} {am' : Nat → Nat → Nat} {o f : Nat} {w : Value} (hne : ∀ j, j ≠ f → hc_fv G E σ' am' o j = hc_fv G E σ am o j) (hw : hc_fv G E σ' am' o f = w) : (hc_fs G E σ am o).set f w = hc_fs G E σ' am' o := by
  apply List.ext_getElem?
  intro j
  by_cases hj : j < G.2.2.1 o
  · by_cases hjf : j = f
    · subst hjf
      rw [List.getElem?_set_self (by rw [hc_fs_len]; exact hj), hc_fs_at hj, hw]
    · rw [List.getElem?_set_ne (Ne.symm hjf), hc_fs_at hj, hc_fs_at hj, hne j hjf]
  · rw [List.getElem?_eq_none (by simp [hc_fs_len]; omega), List.getElem?_eq_none (by rw [hc_fs_len]; omega)]
theorem hc_ob_set {σ' : hc_St} {am' : Nat → Nat → Nat} {o f : Nat} {w : Value} (hne : ∀ i j, ¬ (i = o ∧ j = f) → hc_fv G E σ' am' i j = hc_fv G E σ am i j) (hw : hc_fv G E σ' am' o f = w) :
    (hc_ob G E σ am).set o (E.2.1 o, Sum.inr (G.2.1 o, (hc_fs G E σ am o).set f w)) = hc_ob G E σ' am' := by
  apply List.ext_getElem?
  intro i
  by_cases hi : i < G.1
  · by_cases hio : i = o
    · subst hio
      rw [List.getElem?_set_self (by rw [hc_ob_len]; exact hi), hc_ob_at hi, hc_fs_set (fun j hj => hne i j (fun z => hj z.2)) hw]
    · rw [List.getElem?_set_ne (Ne.symm hio), hc_ob_at hi, hc_ob_at hi]
      congr 4
      unfold hc_fs
      apply List.map_congr_left
      intro j _
      exact (hne i j (fun z => hio z.1)).symm
  · rw [List.getElem?_eq_none (by rw [List.length_set, hc_ob_len]; omega), List.getElem?_eq_none (by rw [hc_ob_len]; omega)]
theorem hc_fv_n {σ' : hc_St} {am' : Nat → Nat → Nat} {i j : Nat} (h1 : σ'.1 i j = σ.1 i j) (h2 : am' i j = am i j) : hc_fv G E σ' am' i j = hc_fv G E σ am i j := by
  simp only [hc_fv, h1, h2]
/-- a number is put -/
theorem hc_ws_pI {o f : Nat} {v : Int32} {w : Value} (ho : o < G.1) (hw : hc_fv G E (pI σ o f v) am o f = w) : (hc_ws G E σ am tm).set o (E.2.1 o, Sum.inr (G.2.1 o, (hc_fs G E σ am o).set f w)) = hc_ws G E (pI σ o f v) am tm := by
  unfold hc_ws
  rw [List.set_append_left _ _ (by rw [hc_ob_len]; exact ho), hc_ob_set (σ' := pI σ o f v) (am' := am) (fun i j h => hc_fv_n (hc_up2_n _ _ _ _ h) rfl) hw]
  rfl
theorem hc_ar_set {σ' : hc_St} {am' : Nat → Nat → Nat} {k o f : Nat} {w : Nat × va_E} (hk : G.2.2.2.2.2[k]? = some (o, f)) (hnd : G.2.2.2.2.2.Nodup) (hne : ∀ i j, ¬ (i = o ∧ j = f) → am' i j = am i j ∧ hc_ae G E σ' i j = hc_ae G E σ i j) (hw : (am' o f, Sum.inl (hc_ae G E σ' o f)) = w) :
    (hc_ar G E σ am).set k w = hc_ar G E σ' am' := by
  have hl : k < G.2.2.2.2.2.length := (List.getElem?_eq_some_iff.mp hk).1
  apply List.ext_getElem?
  intro i
  by_cases hi : i = k
  · subst hi
    rw [List.getElem?_set_self (by rw [hc_ar_len]; exact hl), hc_ar_at hk, hw]
  · rw [List.getElem?_set_ne (Ne.symm hi)]
    simp only [hc_ar, List.getElem?_map]
    cases hq : G.2.2.2.2.2[i]? with
    | none => rfl
    | some q =>
      simp only [Option.map_some]
      have hn : ¬ (q.1 = o ∧ q.2 = f) := by
        rintro ⟨a, b⟩
        have hq' : q = (o, f) := Prod.ext a b
        subst hq'
        exact hi ((List.getElem?_inj (List.getElem?_eq_some_iff.mp hq).1 hnd).mp (hq.trans hk.symm))
      rw [(hne _ _ hn).1, (hne _ _ hn).2]
/-- a number of an array is put -/
theorem hc_ws_pC {k o f : Nat} {i v : Int32} {w : ClassId × vp_A} (hk : G.2.2.2.2.2[k]? = some (o, f)) (hnd : G.2.2.2.2.2.Nodup) (hw : hc_ae G E (pC σ o f i v) o f = w) : (hc_ws G E σ am tm).set (G.1 + k) (am o f, Sum.inl w) = hc_ws G E (pC σ o f i v) am tm := by
  have hl : k < G.2.2.2.2.2.length := (List.getElem?_eq_some_iff.mp hk).1
  unfold hc_ws
  rw [List.set_append_right _ _ (by rw [hc_ob_len]; omega), hc_ob_len, show G.1 + k - G.1 = k by omega, List.set_append_left _ _ (by rw [hc_ar_len]; exact hl)]
  rw [hc_ar_set (σ' := pC σ o f i v) (am' := am) hk hnd (fun i j h => ⟨rfl, by simp only [hc_ae, pC, hc_up2_n _ _ _ _ h]⟩) (by rw [hw])]
  rfl
/-- the numbers of an array under way are put -/
theorem hc_ws_tm {q kd n : Nat} {g g' : Nat → Int32} {w : ClassId × vp_A} (hw : hc_ac E kd n g' = w) : (hc_ws G E σ am ((q, kd, n, g) :: tm)).set (G.1 + G.2.2.2.2.2.length) (q, Sum.inl w) = hc_ws G E σ am ((q, kd, n, g') :: tm) := by
  unfold hc_ws
  rw [List.set_append_right _ _ (by rw [hc_ob_len]; omega), hc_ob_len, List.set_append_right _ _ (by rw [hc_ar_len]; omega), hc_ar_len, show G.1 + G.2.2.2.2.2.length - G.1 - G.2.2.2.2.2.length = 0 by omega, ← hw]
  rfl
/-- an array under way becomes a field's: every cell of the new world is one of the old -/
theorem hc_ws_pA {k o f q n kd : Nat} {g : Nat → Int32} (hk : G.2.2.2.2.2[k]? = some (o, f)) (hnd : G.2.2.2.2.2.Nodup) (ho : o < G.1) (hkd : G.2.2.2.1 o f = kd) (hak : hc_ak kd = true) (j : Nat) :
    (hc_ws G E (pA σ o f n g) (hc_up2 am o f q) [])[j]? = if j = G.1 + k then some (q, Sum.inl (hc_ac E kd n g)) else if j < G.1 + G.2.2.2.2.2.length then ((hc_ws G E σ am [(q, kd, n, g)]).set o (E.2.1 o, Sum.inr (G.2.1 o, (hc_fs G E σ am o).set f (.ref q))))[j]? else none := by
  have hl : k < G.2.2.2.2.2.length := (List.getElem?_eq_some_iff.mp hk).1
  have h1 : hc_ob G E (pA σ o f n g) (hc_up2 am o f q) = (hc_ob G E σ am).set o (E.2.1 o, Sum.inr (G.2.1 o, (hc_fs G E σ am o).set f (.ref q))) := by
    refine (hc_ob_set (fun i j h => hc_fv_n rfl (hc_up2_n _ _ _ _ h)) ?_).symm
    rw [hc_fvA (by rw [hkd]; exact hak), hc_up2_s]
  have h2 : hc_ar G E (pA σ o f n g) (hc_up2 am o f q) = (hc_ar G E σ am).set k (q, Sum.inl (hc_ac E kd n g)) := by
    refine (hc_ar_set hk hnd (fun i j h => ⟨hc_up2_n _ _ _ _ h, by simp only [hc_ae, pA, hc_up2_n _ _ _ _ h]⟩) ?_).symm
    simp only [hc_ae, pA, hc_up2_s, hkd]
  by_cases hj : j < G.1
  · rw [if_neg (by omega), if_pos (by omega)]
    unfold hc_ws
    rw [h1, List.set_append_left _ _ (by rw [hc_ob_len]; exact ho), List.getElem?_append_left (by rw [List.length_set, hc_ob_len]; exact hj), List.getElem?_append_left (by rw [List.length_set, hc_ob_len]; exact hj)]
  · unfold hc_ws
    rw [h1, h2, List.set_append_left _ _ (by rw [hc_ob_len]; exact ho)]
    have hob : ((hc_ob G E σ am).set o (E.2.1 o, Sum.inr (G.2.1 o, (hc_fs G E σ am o).set f (.ref q)))).length = G.1 := by rw [List.length_set, hc_ob_len]
    by_cases hj2 : j < G.1 + G.2.2.2.2.2.length
    · rw [hc_g2 hob hj (by rw [List.length_set, hc_ar_len]; exact hj2), hc_g2 hob hj (by rw [hc_ar_len]; exact hj2), if_pos hj2]
      by_cases hjk : j = G.1 + k
      · subst hjk
        rw [if_pos rfl, show G.1 + k - G.1 = k by omega, List.getElem?_set_self (by rw [hc_ar_len]; exact hl)]
      · rw [if_neg hjk, List.getElem?_set_ne (by omega)]
    · rw [if_neg (by omega), if_neg hj2]
      exact hc_g3 hob (by rw [List.length_set, hc_ar_len]; exact hj2)
theorem hc_pA_P {k o f q n kd : Nat} {g : Nat → Int32} {cl : List vw_C} {H : Heap} (hk : G.2.2.2.2.2[k]? = some (o, f)) (hnd : G.2.2.2.2.2.Nodup) (ho : o < G.1) (hkd : G.2.2.2.1 o f = kd) (hak : hc_ak kd = true) (h : va_P E.1 cl ((hc_ws G E σ am [(q, kd, n, g)]).set o (E.2.1 o, Sum.inr (G.2.1 o, (hc_fs G E σ am o).set f (.ref q)))) H) : va_P E.1 cl (hc_ws G E (pA σ o f n g) (hc_up2 am o f q) []) H := by
  intro j x hx
  rw [hc_ws_pA hk hnd ho hkd hak] at hx
  split at hx
  · cases hx
    refine h (G.1 + G.2.2.2.2.2.length) _ ?_
    rw [List.getElem?_set_ne (by omega), hc_ws_t]
  · split at hx
    · exact h j x hx
    · cases hx
theorem hc_pA_D {k o f q n kd : Nat} {g : Nat → Int32} {A : Nat → Prop} (hk : G.2.2.2.2.2[k]? = some (o, f)) (hnd : G.2.2.2.2.2.Nodup) (ho : o < G.1) (hkd : G.2.2.2.1 o f = kd) (hak : hc_ak kd = true) (h : va_D A ((hc_ws G E σ am [(q, kd, n, g)]).set o (E.2.1 o, Sum.inr (G.2.1 o, (hc_fs G E σ am o).set f (.ref q))))) : va_D A (hc_ws G E (pA σ o f n g) (hc_up2 am o f q) []) := by
  have hz : ∀ (j : Nat) (x : Nat × va_E), (hc_ws G E (pA σ o f n g) (hc_up2 am o f q) [])[j]? = some x → ((hc_ws G E σ am [(q, kd, n, g)]).set o (E.2.1 o, Sum.inr (G.2.1 o, (hc_fs G E σ am o).set f (.ref q))))[if j = G.1 + k then G.1 + G.2.2.2.2.2.length else j]? = some x ∧ j < G.1 + G.2.2.2.2.2.length := by
    intro j x hx
    have hl : k < G.2.2.2.2.2.length := (List.getElem?_eq_some_iff.mp hk).1
    rw [hc_ws_pA hk hnd ho hkd hak] at hx
    split at hx
    · rename_i hj
      cases hx
      rw [if_pos hj, List.getElem?_set_ne (by omega), hc_ws_t]
      exact ⟨rfl, by omega⟩
    · rename_i hj
      split at hx
      · rename_i hj2
        rw [if_neg hj]
        exact ⟨hx, hj2⟩
      · cases hx
  refine ⟨fun i j x y hx hy e => ?_, fun j x hx => h.2 _ x (hz j x hx).1⟩
  have h1 := h.1 _ _ x y (hz i x hx).1 (hz j y hy).1 e
  have h2 := (hz i x hx).2
  have h3 := (hz j y hy).2
  split at h1 <;> split at h1 <;> omega
end HCG
