/-! ===== Java's shifts and remainders ===== -/
def jshl (x y : Int32) : Int32 := x <<< (y &&& 31)
def jshr (x y : Int32) : Int32 := x >>> (y &&& 31)
def jush (x y : Int32) : Int32 := (x.toUInt32 >>> (y.toUInt32 &&& Int32.toUInt32 31)).toInt32
def jrem (x y : Int32) : Int32 := x - x / y * y
def jlrem (x y : Int64) : Int64 := x - x / y * y
def jlush (x : Int64) (y : Int32) : Int64 := (x.toUInt64 >>> (y.toInt64.toUInt64 &&& Int64.toUInt64 63)).toInt64
def jlshr (x : Int64) (y : Int32) : Int64 := x >>> (y.toInt64 &&& 63)
/-! ===== where a walk stands, and its rows ===== -/
/-- program, launch, environment, room, first state, method, arguments, frames below, method, code, what may change, the end, the arrays at the start, the objects whose arrays may be others at the end -/
abbrev hc_X : Type := Program × Launch × Env × Room × State × MethodId × Array Value × List Frame × Method × Code × (Nat → Prop) × (State → Prop) × (Nat → Nat → Nat) × List Nat
/-- launch, what may change, the arrays at the start, the objects whose arrays may be others at the end -/
abbrev hc_Y : Type := Launch × (Nat → Prop) × (Nat → Nat → Nat) × List Nat
/-- classes; objects; what holds of all that lies outside -/
abbrev hc_V : Type := List vw_C × hc_G × (hc_E → (Nat → Prop) → State → Heap → Prop)
/-- returned, with a value; thrown, of a kind -/
abbrev hc_Oc : Type := Option Value ⊕ Nat
def hc_xn (k : Nat) : String := match k with
  | 1 => "java/lang/IllegalArgumentException"
  | 2 => "java/lang/IllegalStateException"
  | 3 => "java/lang/IndexOutOfBoundsException"
  | _ => "java/lang/ArithmeticException"
/-- an exception of a kind -/
def hc_xc (k x : Nat) (t : State) : Prop := ∃ cell : Cell, t.heap[x]? = some cell ∧ cell.vm ≠ .unknown ∧ cell.vm.isStatics = false ∧ t.vm.findClass (hc_xn k) = some cell.cls
def hc_oc (oc : hc_Oc) (o : Outcome) (t : State) : Prop := match oc with
  | .inl v => o = .returned v
  | .inr k => ∃ x, o = .threw x ∧ hc_xc k x t
def hc_Post (V : hc_V) (E : hc_E) (A : Nat → Prop) (am0 : Nat → Nat → Nat) (rb : List Nat) (oc : hc_Oc) (σ : hc_St) (o : Outcome) (t : State) : Prop :=
  ∃ am : Nat → Nat → Nat, hc_oc oc o t ∧ va_P E.1 V.1 (hc_ws V.2.1 E σ am []) t.heap ∧ va_D A (hc_ws V.2.1 E σ am []) ∧ ∀ i j, i ∉ rb → am i j = am0 i j
def hc_Pre (V : hc_V) (E : hc_E) (A : Nat → Prop) (am : Nat → Nat → Nat) (σ : hc_St) (U : State) : Prop :=
  va_P E.1 V.1 (hc_ws V.2.1 E σ am []) U.heap ∧ va_D A (hc_ws V.2.1 E σ am []) ∧ va_K E.1 V.1 (hc_tys E) U ∧ V.2.2 E A U U.heap ∧ ∀ q, U.heap.size ≤ q → A q
/-- a launch without stack traces -/
def hc_nt (l : Launch) : Prop := l.stackTraces = false
/-- a method's contract: from the store σ with the arguments a it ends as oc says, with the store σ' -/
def hc_M (l : Launch) (V : hc_V) (y : MethodName) (ws : List Cond) (d : Nat) (E : hc_E) (A : Nat → Prop) (a : List Value) (am : Nat → Nat → Nat) (rb : List Nat) (σ : hc_St) (oc : hc_Oc) (σ' : hc_St) : Prop :=
  hc_nt l → hc_Mt l y ws ({ frames := d, cells := σ.2.2.2.1, slots := σ.2.2.2.2, locals := 46 * d } : Room) (fun ar U => ar = a.toArray ∧ hc_Pre V E A am σ U) (fun _ st o t => hc_Post V E A am rb oc σ' o t ∧ va_F A st t) A (fun k n => σ'.2.2.2.1 + k = σ.2.2.2.1 ∧ σ'.2.2.2.2 + n = σ.2.2.2.2)
/-- what lies outside stays -/
def hc_St1 (V : hc_V) : Prop := ∀ (E : hc_E) (A : Nat → Prop) (u U : State) (H : Heap), V.2.2 E A u u.heap → u.WarmedH U.vm → (∀ a : Nat, a < u.heap.size → ¬ A a → H[a]? = u.heap[a]?) → V.2.2 E A U H
def hc_R (V : hc_V) (E : hc_E) (X : hc_X) (σ : hc_St) (am : Nat → Nat → Nat) (tm : hc_T) (H : Heap) (locs : List Loc) : Prop :=
  va_P E.1 V.1 (hc_ws V.2.1 E σ am tm) H ∧ va_D X.2.2.2.2.2.2.2.2.2.2.1 (hc_ws V.2.1 E σ am tm) ∧ va_S X.2.2.2.2.2.2.2.2.2.2.1 X.2.2.2.2.1.heap H locs ∧ ∀ i j, i ∉ X.2.2.2.2.2.2.2.2.2.2.2.2.2 → am i j = X.2.2.2.2.2.2.2.2.2.2.2.2.1 i j
/-- what holds all through a method's body: d calls may still be nested; it ends as oc says with the store σe -/
def hc_C (V : hc_V) (E : hc_E) (cc : ByteArray) (nL : Nat) (own : String) (ret : Option FieldType) (d : Nat) (oc : hc_Oc) (σe : hc_St) (Y : hc_Y) (X : hc_X) : Prop :=
  X.1.tables.exec = Jvm.exec ∧ X.2.2.2.2.2.2.2.2.2.1.code = cc ∧ X.2.2.2.2.2.2.2.2.2.1.maxLocals = nL ∧ X.2.2.2.2.1.vm.findClass own = some X.2.2.2.2.2.1.cls ∧ (∀ w ∈ lw_all, w.before X.2.2.2.2.2.2.1 X.2.2.2.2.1 = true) ∧ X.2.2.2.2.2.2.2.2.1.sig.returnType = ret ∧ X.2.2.2.2.2.2.2.2.1.locks = false ∧
  va_K E.1 V.1 (hc_tys E) X.2.2.2.2.1 ∧ V.2.2 E X.2.2.2.2.2.2.2.2.2.2.1 X.2.2.2.2.1 X.2.2.2.2.1.heap ∧ hc_St1 V ∧ (∀ q, X.2.2.2.2.1.heap.size ≤ q → X.2.2.2.2.2.2.2.2.2.2.1 q) ∧ X.2.2.2.1.frames = d ∧ X.2.2.2.1.locals = 46 * d ∧ V.2.1.2.2.2.2.2.Nodup ∧
  X.2.2.2.2.2.2.2.2.2.2.2.1 = hc_MQ X.2.2.2.2.2.2.2.1 (fun _ st o t => hc_Post V E X.2.2.2.2.2.2.2.2.2.2.1 X.2.2.2.2.2.2.2.2.2.2.2.2.1 X.2.2.2.2.2.2.2.2.2.2.2.2.2 oc σe o t ∧ va_F X.2.2.2.2.2.2.2.2.2.2.1 st t) X.2.2.2.2.2.2.1 X.2.2.2.2.1 X.2.2.2.2.2.2.2.2.2.2.1 (fun k n => σe.2.2.2.1 + k = X.2.2.2.1.cells ∧ σe.2.2.2.2 + n = X.2.2.2.1.slots) ∧ X.2.1 = Y.1 ∧ X.2.2.2.2.2.2.2.2.2.2.1 = Y.2.1 ∧ X.2.2.2.2.2.2.2.2.2.2.2.2.1 = Y.2.2.1 ∧ X.2.2.2.2.2.2.2.2.2.2.2.2.2 = Y.2.2.2 ∧ hc_nt Y.1
def hc_At (V : hc_V) (E : hc_E) (nL : Nat) (X : hc_X) (pc : Nat) (lv : List (Nat × Value)) (st : List Value) (σ : hc_St) (am : Nat → Nat → Nat) (tm : hc_T) : Prop :=
  ∀ (ls : Array Slot) (H : Heap) (locs : List Loc) (k n : Nat), lv_has ls nL lv → hc_R V E X σ am tm H locs → σ.2.2.2.1 + k = X.2.2.2.1.cells → σ.2.2.2.2 + n = X.2.2.2.1.slots →
    W X.1 X.2.1 X.2.2.1 X.2.2.2.1 X.2.2.2.2.1 X.2.2.2.2.2.1 X.2.2.2.2.2.2.1 X.2.2.2.2.2.2.2.1 X.2.2.2.2.2.2.2.2.1 X.2.2.2.2.2.2.2.2.2.1 H locs k n X.2.2.2.2.2.2.2.2.2.2.2.1 (F0 X.2.2.2.2.2.1 pc ls st)
def hc_look : List (Nat × Value) → Nat → Option Value
  | [], _ => none
  | q :: l, i => if q.1 = i then some q.2 else hc_look l i
theorem hc_look_mem : ∀ {l : List (Nat × Value)} {i : Nat} {v : Value}, hc_look l i = some v → (i, v) ∈ l
  | [], i, v, h => by simp [hc_look] at h
  | q :: l, i, v, h => by
    simp only [hc_look] at h
    split at h
    · rename_i e
      cases h
      exact List.mem_cons.mpr (Or.inl (Prod.ext e.symm rfl))
    · exact List.mem_cons_of_mem _ (hc_look_mem h)
theorem hc_has {ls : Array Slot} {nL : Nat} {l : List (Nat × Value)} (h : lv_has ls nL l) {i : Nat} {v : Value} (hk : hc_look l i = some v) : ls[i]? = some (.val v) := h.2.2 (i, v) (hc_look_mem hk)
/-- a store of a value of one slot, as the locals' list has it -/
def hc_put (l : List (Nat × Value)) (i : Nat) (v : Value) : List (Nat × Value) := (i, v) :: l.filter (fun q => !(q.1 == i) && !(q.1 + 1 == i && q.2.category == 2))
def hc_put2 (l : List (Nat × Value)) (i : Nat) (v : Value) : List (Nat × Value) := (i, v) :: l.filter (fun q => !(q.1 == i) && (!(q.1 == i + 1) && !(q.1 + 1 == i && q.2.category == 2)))
theorem hx_if {α : Type} {c : Prop} [Decidable c] {K : Option α} {r : α} (h : (if c then K else none) = some r) : c ∧ K = some r := by
  split at h
  · rename_i hc; exact ⟨hc, h⟩
  · cases h
theorem hx_bind {α β : Type} {x : Option α} {f : α → Option β} {r : β} (h : Option.bind x f = some r) : ∃ a, x = some a ∧ f a = some r := by
  cases x with
  | none => cases h
  | some a => exact ⟨a, rfl, h⟩
section HCR
variable {V : hc_V} {E : hc_E} {cc : ByteArray} {nL d pc : Nat} {own : String} {ret : Option FieldType} {oc : hc_Oc} {σe : hc_St} {Y : hc_Y} {X : hc_X} {lv lv' : List (Nat × Value)} {st : List Value} {σ : hc_St} {am : Nat → Nat → Nat} {tm : hc_T}
/-- fewer locals are enough -/
theorem hr_sub (lv' : List (Nat × Value)) (h : lv'.map (fun q => hc_look lv q.1) = lv'.map (fun q => some q.2)) (k : hc_At V E nL X pc lv' st σ am tm) : hc_At V E nL X pc lv st σ am tm := by
  intro ls H locs k9 n9 hl
  refine k ls H locs k9 n9 ⟨hl.1, hl.2.1, fun q hq => ?_⟩
  exact hc_has hl (List.map_inj_left.mp h q hq)

theorem hr_iconst (hC : hc_C V E cc nL own ret d oc σe Y X) {n : Int} {v : Int32} (hd : decode cc pc = .ok (.iconst n, 1)) (hv : Int32.ofInt n = v) (k : hc_At V E nL X (pc + 1) lv (.int v :: st) σ am tm) : hc_At V E nL X pc lv (st) σ am tm :=
  fun ls H locs k9 n9 hl hR h1 h2 => lv_iconst hC.1 hC.2.1 hd hv (k ls H locs k9 n9 hl hR h1 h2)
theorem hr_bipush (hC : hc_C V E cc nL own ret d oc σe Y X) {n : Int} {v : Int32} (hd : decode cc pc = .ok (.bipush n, 2)) (hv : (Int8.ofInt n).toInt32 = v) (k : hc_At V E nL X (pc + 2) lv (.int v :: st) σ am tm) : hc_At V E nL X pc lv (st) σ am tm :=
  fun ls H locs k9 n9 hl hR h1 h2 => lv_bipush hC.1 hC.2.1 hd hv (k ls H locs k9 n9 hl hR h1 h2)
theorem hr_sipush (hC : hc_C V E cc nL own ret d oc σe Y X) {n : Int} {v : Int32} (hd : decode cc pc = .ok (.sipush n, 3)) (hv : (Int16.ofInt n).toInt32 = v) (k : hc_At V E nL X (pc + 3) lv (.int v :: st) σ am tm) : hc_At V E nL X pc lv (st) σ am tm :=
  fun ls H locs k9 n9 hl hR h1 h2 => lv_sipush hC.1 hC.2.1 hd hv (k ls H locs k9 n9 hl hR h1 h2)
theorem hr_lconst (hC : hc_C V E cc nL own ret d oc σe Y X) {n : Fin 2} {v : Int64} (hd : decode cc pc = .ok (.lconst n, 1)) (hv : Int64.ofNat (n : Nat) = v) (k : hc_At V E nL X (pc + 1) lv (.long v :: st) σ am tm) : hc_At V E nL X pc lv (st) σ am tm :=
  fun ls H locs k9 n9 hl hR h1 h2 => lv_lconst hC.1 hC.2.1 hd hv (k ls H locs k9 n9 hl hR h1 h2)
theorem hr_ldc (hC : hc_C V E cc nL own ret d oc σe Y X) {i : Nat} {v : Int32} (hd : decode cc pc = .ok (.ldc i, 2)) (hv : Cond.constant own i v ∈ lw_all) (k : hc_At V E nL X (pc + 2) lv (.int v :: st) σ am tm) : hc_At V E nL X pc lv (st) σ am tm :=
  fun ls H locs k9 n9 hl hR h1 h2 => lv_ldc hC.1 hC.2.1 hC.2.2.2.1 (hC.2.2.2.2.1 _ hv) hd (k ls H locs k9 n9 hl hR h1 h2)
theorem hr_ldcw (hC : hc_C V E cc nL own ret d oc σe Y X) {i : Nat} {v : Int32} (hd : decode cc pc = .ok (.ldc_w i, 3)) (hv : Cond.constant own i v ∈ lw_all) (k : hc_At V E nL X (pc + 3) lv (.int v :: st) σ am tm) : hc_At V E nL X pc lv (st) σ am tm :=
  fun ls H locs k9 n9 hl hR h1 h2 => lv_ldcw hC.1 hC.2.1 hC.2.2.2.1 (hC.2.2.2.2.1 _ hv) hd (k ls H locs k9 n9 hl hR h1 h2)
theorem hr_ldc2 (hC : hc_C V E cc nL own ret d oc σe Y X) {i : Nat} {v : Int64} (hd : decode cc pc = .ok (.ldc2_w i, 3)) (hv : Cond.constantLong own i v ∈ lw_all) (k : hc_At V E nL X (pc + 3) lv (.long v :: st) σ am tm) : hc_At V E nL X pc lv (st) σ am tm :=
  fun ls H locs k9 n9 hl hR h1 h2 => lv_ldc2 hC.1 hC.2.1 hC.2.2.2.1 (hC.2.2.2.2.1 _ hv) hd (k ls H locs k9 n9 hl hR h1 h2)
theorem hr_iload_n (hC : hc_C V E cc nL own ret d oc σe Y X) {i : Fin 4} {x : Int32} (hd : decode cc pc = .ok (.iload_n i, 1)) (hv : hc_look lv (i : Nat) = some (.int x)) (k : hc_At V E nL X (pc + 1) lv (.int x :: st) σ am tm) : hc_At V E nL X pc lv (st) σ am tm :=
  fun ls H locs k9 n9 hl hR h1 h2 => lv_iload_n hC.1 hC.2.1 hd rfl (hc_has hl hv) (k ls H locs k9 n9 hl hR h1 h2)
theorem hr_iload (hC : hc_C V E cc nL own ret d oc σe Y X) {i : Nat} {x : Int32} (hd : decode cc pc = .ok (.iload i, 2)) (hv : hc_look lv i = some (.int x)) (k : hc_At V E nL X (pc + 2) lv (.int x :: st) σ am tm) : hc_At V E nL X pc lv (st) σ am tm :=
  fun ls H locs k9 n9 hl hR h1 h2 => lv_iload hC.1 hC.2.1 hd (hc_has hl hv) (k ls H locs k9 n9 hl hR h1 h2)
theorem hr_lload_n (hC : hc_C V E cc nL own ret d oc σe Y X) {i : Fin 4} {x : Int64} (hd : decode cc pc = .ok (.lload_n i, 1)) (hv : hc_look lv (i : Nat) = some (.long x)) (k : hc_At V E nL X (pc + 1) lv (.long x :: st) σ am tm) : hc_At V E nL X pc lv (st) σ am tm :=
  fun ls H locs k9 n9 hl hR h1 h2 => lv_lload_n hC.1 hC.2.1 hd rfl (hc_has hl hv) (k ls H locs k9 n9 hl hR h1 h2)
theorem hr_lload (hC : hc_C V E cc nL own ret d oc σe Y X) {i : Nat} {x : Int64} (hd : decode cc pc = .ok (.lload i, 2)) (hv : hc_look lv i = some (.long x)) (k : hc_At V E nL X (pc + 2) lv (.long x :: st) σ am tm) : hc_At V E nL X pc lv (st) σ am tm :=
  fun ls H locs k9 n9 hl hR h1 h2 => lv_lload hC.1 hC.2.1 hd (hc_has hl hv) (k ls H locs k9 n9 hl hR h1 h2)
theorem hr_aload_n (hC : hc_C V E cc nL own ret d oc σe Y X) {i : Fin 4} {x : Nat} (hd : decode cc pc = .ok (.aload_n i, 1)) (hv : hc_look lv (i : Nat) = some (.ref x)) (k : hc_At V E nL X (pc + 1) lv (.ref x :: st) σ am tm) : hc_At V E nL X pc lv (st) σ am tm :=
  fun ls H locs k9 n9 hl hR h1 h2 => lv_aload_n hC.1 hC.2.1 hd rfl (hc_has hl hv) (k ls H locs k9 n9 hl hR h1 h2)
theorem hr_aload (hC : hc_C V E cc nL own ret d oc σe Y X) {i : Nat} {x : Nat} (hd : decode cc pc = .ok (.aload i, 2)) (hv : hc_look lv i = some (.ref x)) (k : hc_At V E nL X (pc + 2) lv (.ref x :: st) σ am tm) : hc_At V E nL X pc lv (st) σ am tm :=
  fun ls H locs k9 n9 hl hR h1 h2 => lv_aload hC.1 hC.2.1 hd (hc_has hl hv) (k ls H locs k9 n9 hl hR h1 h2)
theorem hr_istore_n (hC : hc_C V E cc nL own ret d oc σe Y X) {i : Fin 4} {x : Int32} (hd : decode cc pc = .ok (.istore_n i, 1)) (hn : (i : Nat) < nL) (k : hc_At V E nL X (pc + 1) (hc_put lv (i : Nat) (.int x)) (st) σ am tm) : hc_At V E nL X pc lv (.int x :: st) σ am tm :=
  fun ls H locs k9 n9 hl hR h1 h2 => lv_istore_n hC.1 hC.2.1 hd rfl hl hn rfl (fun ls' hl' => k ls' H locs k9 n9 hl' hR h1 h2)
theorem hr_istore (hC : hc_C V E cc nL own ret d oc σe Y X) {i : Nat} {x : Int32} (hd : decode cc pc = .ok (.istore i, 2)) (hn : i < nL) (k : hc_At V E nL X (pc + 2) (hc_put lv i (.int x)) (st) σ am tm) : hc_At V E nL X pc lv (.int x :: st) σ am tm :=
  fun ls H locs k9 n9 hl hR h1 h2 => lv_istore hC.1 hC.2.1 hd hl hn rfl (fun ls' hl' => k ls' H locs k9 n9 hl' hR h1 h2)
theorem hr_astore_n (hC : hc_C V E cc nL own ret d oc σe Y X) {i : Fin 4} {x : Nat} (hd : decode cc pc = .ok (.astore_n i, 1)) (hn : (i : Nat) < nL) (k : hc_At V E nL X (pc + 1) (hc_put lv (i : Nat) (.ref x)) (st) σ am tm) : hc_At V E nL X pc lv (.ref x :: st) σ am tm :=
  fun ls H locs k9 n9 hl hR h1 h2 => lv_astore_n hC.1 hC.2.1 hd rfl hl hn rfl (fun ls' hl' => k ls' H locs k9 n9 hl' hR h1 h2)
theorem hr_astore (hC : hc_C V E cc nL own ret d oc σe Y X) {i : Nat} {x : Nat} (hd : decode cc pc = .ok (.astore i, 2)) (hn : i < nL) (k : hc_At V E nL X (pc + 2) (hc_put lv i (.ref x)) (st) σ am tm) : hc_At V E nL X pc lv (.ref x :: st) σ am tm :=
  fun ls H locs k9 n9 hl hR h1 h2 => lv_astore hC.1 hC.2.1 hd hl hn rfl (fun ls' hl' => k ls' H locs k9 n9 hl' hR h1 h2)
theorem hr_lstore_n (hC : hc_C V E cc nL own ret d oc σe Y X) {i : Fin 4} {x : Int64} (hd : decode cc pc = .ok (.lstore_n i, 1)) (hn : (i : Nat) + 1 < nL) (k : hc_At V E nL X (pc + 1) (hc_put2 lv (i : Nat) (.long x)) (st) σ am tm) : hc_At V E nL X pc lv (.long x :: st) σ am tm :=
  fun ls H locs k9 n9 hl hR h1 h2 => lv_lstore_n hC.1 hC.2.1 hd rfl hl hn rfl (fun ls' hl' => k ls' H locs k9 n9 hl' hR h1 h2)
theorem hr_lstore (hC : hc_C V E cc nL own ret d oc σe Y X) {i : Nat} {x : Int64} (hd : decode cc pc = .ok (.lstore i, 2)) (hn : i + 1 < nL) (k : hc_At V E nL X (pc + 2) (hc_put2 lv i (.long x)) (st) σ am tm) : hc_At V E nL X pc lv (.long x :: st) σ am tm :=
  fun ls H locs k9 n9 hl hR h1 h2 => lv_lstore hC.1 hC.2.1 hd hl hn rfl (fun ls' hl' => k ls' H locs k9 n9 hl' hR h1 h2)
theorem hr_iinc (hC : hc_C V E cc nL own ret d oc σe Y X) {i : Nat} {n : Int} {x v : Int32} (hd : decode cc pc = .ok (.iinc i n, 3)) (hv : hc_look lv i = some (.int x)) (he : x + Int32.ofInt n = v) (hn : i < nL) (k : hc_At V E nL X (pc + 3) (hc_put lv i (.int v)) st σ am tm) : hc_At V E nL X pc lv st σ am tm := by
  intro ls H locs k9 n9 hl hR h1 h2
  obtain ⟨j, hj⟩ := List.getElem?_of_mem (hc_look_mem hv)
  exact lv_iinc hC.1 hC.2.1 hd hl hj he hn rfl (fun ls' hl' => k ls' H locs k9 n9 hl' hR h1 h2)
theorem hr_iadd (hC : hc_C V E cc nL own ret d oc σe Y X) {x y : Int32} (hd : decode cc pc = .ok (.iadd, 1))  (k : hc_At V E nL X (pc + 1) lv (.int (x + y) :: st) σ am tm) : hc_At V E nL X pc lv (.int y :: .int x :: st) σ am tm :=
  fun ls H locs k9 n9 hl hR h1 h2 => lv_iadd hC.1 hC.2.1 hd (k ls H locs k9 n9 hl hR h1 h2)
theorem hr_isub (hC : hc_C V E cc nL own ret d oc σe Y X) {x y : Int32} (hd : decode cc pc = .ok (.isub, 1))  (k : hc_At V E nL X (pc + 1) lv (.int (x - y) :: st) σ am tm) : hc_At V E nL X pc lv (.int y :: .int x :: st) σ am tm :=
  fun ls H locs k9 n9 hl hR h1 h2 => lv_isub hC.1 hC.2.1 hd (k ls H locs k9 n9 hl hR h1 h2)
theorem hr_imul (hC : hc_C V E cc nL own ret d oc σe Y X) {x y : Int32} (hd : decode cc pc = .ok (.imul, 1))  (k : hc_At V E nL X (pc + 1) lv (.int (x * y) :: st) σ am tm) : hc_At V E nL X pc lv (.int y :: .int x :: st) σ am tm :=
  fun ls H locs k9 n9 hl hR h1 h2 => lv_imul hC.1 hC.2.1 hd (k ls H locs k9 n9 hl hR h1 h2)
theorem hr_iand (hC : hc_C V E cc nL own ret d oc σe Y X) {x y : Int32} (hd : decode cc pc = .ok (.iand, 1))  (k : hc_At V E nL X (pc + 1) lv (.int (x &&& y) :: st) σ am tm) : hc_At V E nL X pc lv (.int y :: .int x :: st) σ am tm :=
  fun ls H locs k9 n9 hl hR h1 h2 => lv_iand hC.1 hC.2.1 hd (k ls H locs k9 n9 hl hR h1 h2)
theorem hr_ior (hC : hc_C V E cc nL own ret d oc σe Y X) {x y : Int32} (hd : decode cc pc = .ok (.ior, 1))  (k : hc_At V E nL X (pc + 1) lv (.int (x ||| y) :: st) σ am tm) : hc_At V E nL X pc lv (.int y :: .int x :: st) σ am tm :=
  fun ls H locs k9 n9 hl hR h1 h2 => lv_ior hC.1 hC.2.1 hd (k ls H locs k9 n9 hl hR h1 h2)
theorem hr_ixor (hC : hc_C V E cc nL own ret d oc σe Y X) {x y : Int32} (hd : decode cc pc = .ok (.ixor, 1))  (k : hc_At V E nL X (pc + 1) lv (.int (x ^^^ y) :: st) σ am tm) : hc_At V E nL X pc lv (.int y :: .int x :: st) σ am tm :=
  fun ls H locs k9 n9 hl hR h1 h2 => lv_ixor hC.1 hC.2.1 hd (k ls H locs k9 n9 hl hR h1 h2)
theorem hr_ishl (hC : hc_C V E cc nL own ret d oc σe Y X) {x y : Int32} (hd : decode cc pc = .ok (.ishl, 1))  (k : hc_At V E nL X (pc + 1) lv (.int (jshl x y) :: st) σ am tm) : hc_At V E nL X pc lv (.int y :: .int x :: st) σ am tm :=
  fun ls H locs k9 n9 hl hR h1 h2 => lv_ishl hC.1 hC.2.1 hd (k ls H locs k9 n9 hl hR h1 h2)
theorem hr_ishr (hC : hc_C V E cc nL own ret d oc σe Y X) {x y : Int32} (hd : decode cc pc = .ok (.ishr, 1))  (k : hc_At V E nL X (pc + 1) lv (.int (jshr x y) :: st) σ am tm) : hc_At V E nL X pc lv (.int y :: .int x :: st) σ am tm :=
  fun ls H locs k9 n9 hl hR h1 h2 => lv_ishr hC.1 hC.2.1 hd (k ls H locs k9 n9 hl hR h1 h2)
theorem hr_iushr (hC : hc_C V E cc nL own ret d oc σe Y X) {x y : Int32} (hd : decode cc pc = .ok (.iushr, 1))  (k : hc_At V E nL X (pc + 1) lv (.int (jush x y) :: st) σ am tm) : hc_At V E nL X pc lv (.int y :: .int x :: st) σ am tm :=
  fun ls H locs k9 n9 hl hR h1 h2 => lv_iushr hC.1 hC.2.1 hd rfl (k ls H locs k9 n9 hl hR h1 h2)
theorem hr_idiv (hC : hc_C V E cc nL own ret d oc σe Y X) {x y : Int32} (hd : decode cc pc = .ok (.idiv, 1)) (hne : ¬ y = 0) (k : hc_At V E nL X (pc + 1) lv (.int (x / y) :: st) σ am tm) : hc_At V E nL X pc lv (.int y :: .int x :: st) σ am tm :=
  fun ls H locs k9 n9 hl hR h1 h2 => lv_idiv hC.1 hC.2.1 hd hne (k ls H locs k9 n9 hl hR h1 h2)
theorem hr_irem (hC : hc_C V E cc nL own ret d oc σe Y X) {x y : Int32} (hd : decode cc pc = .ok (.irem, 1)) (hne : ¬ y = 0) (k : hc_At V E nL X (pc + 1) lv (.int (jrem x y) :: st) σ am tm) : hc_At V E nL X pc lv (.int y :: .int x :: st) σ am tm :=
  fun ls H locs k9 n9 hl hR h1 h2 => lv_irem hC.1 hC.2.1 hd hne (k ls H locs k9 n9 hl hR h1 h2)
theorem hr_ineg (hC : hc_C V E cc nL own ret d oc σe Y X) {x : Int32} (hd : decode cc pc = .ok (.ineg, 1))  (k : hc_At V E nL X (pc + 1) lv (.int (-x) :: st) σ am tm) : hc_At V E nL X pc lv (.int x :: st) σ am tm :=
  fun ls H locs k9 n9 hl hR h1 h2 => lv_ineg hC.1 hC.2.1 hd (k ls H locs k9 n9 hl hR h1 h2)
theorem hr_ladd (hC : hc_C V E cc nL own ret d oc σe Y X) {x y : Int64} (hd : decode cc pc = .ok (.ladd, 1))  (k : hc_At V E nL X (pc + 1) lv (.long (x + y) :: st) σ am tm) : hc_At V E nL X pc lv (.long y :: .long x :: st) σ am tm :=
  fun ls H locs k9 n9 hl hR h1 h2 => lv_ladd hC.1 hC.2.1 hd (k ls H locs k9 n9 hl hR h1 h2)
theorem hr_lmul (hC : hc_C V E cc nL own ret d oc σe Y X) {x y : Int64} (hd : decode cc pc = .ok (.lmul, 1))  (k : hc_At V E nL X (pc + 1) lv (.long (x * y) :: st) σ am tm) : hc_At V E nL X pc lv (.long y :: .long x :: st) σ am tm :=
  fun ls H locs k9 n9 hl hR h1 h2 => lv_lmul hC.1 hC.2.1 hd (k ls H locs k9 n9 hl hR h1 h2)
theorem hr_land (hC : hc_C V E cc nL own ret d oc σe Y X) {x y : Int64} (hd : decode cc pc = .ok (.land, 1))  (k : hc_At V E nL X (pc + 1) lv (.long (x &&& y) :: st) σ am tm) : hc_At V E nL X pc lv (.long y :: .long x :: st) σ am tm :=
  fun ls H locs k9 n9 hl hR h1 h2 => lv_land hC.1 hC.2.1 hd (k ls H locs k9 n9 hl hR h1 h2)
theorem hr_ldiv (hC : hc_C V E cc nL own ret d oc σe Y X) {x y : Int64} (hd : decode cc pc = .ok (.ldiv, 1)) (hne : ¬ y = 0) (k : hc_At V E nL X (pc + 1) lv (.long (x / y) :: st) σ am tm) : hc_At V E nL X pc lv (.long y :: .long x :: st) σ am tm :=
  fun ls H locs k9 n9 hl hR h1 h2 => lv_ldiv hC.1 hC.2.1 hd hne (k ls H locs k9 n9 hl hR h1 h2)
theorem hr_lrem (hC : hc_C V E cc nL own ret d oc σe Y X) {x y : Int64} (hd : decode cc pc = .ok (.lrem, 1)) (hne : ¬ y = 0) (k : hc_At V E nL X (pc + 1) lv (.long (jlrem x y) :: st) σ am tm) : hc_At V E nL X pc lv (.long y :: .long x :: st) σ am tm :=
  fun ls H locs k9 n9 hl hR h1 h2 => lv_lrem hC.1 hC.2.1 hd hne (k ls H locs k9 n9 hl hR h1 h2)
theorem hr_lushr (hC : hc_C V E cc nL own ret d oc σe Y X) {x : Int64} {y : Int32} (hd : decode cc pc = .ok (.lushr, 1))  (k : hc_At V E nL X (pc + 1) lv (.long (jlush x y) :: st) σ am tm) : hc_At V E nL X pc lv (.int y :: .long x :: st) σ am tm :=
  fun ls H locs k9 n9 hl hR h1 h2 => lv_lushr hC.1 hC.2.1 hd rfl (k ls H locs k9 n9 hl hR h1 h2)
theorem hr_lshr (hC : hc_C V E cc nL own ret d oc σe Y X) {x : Int64} {y : Int32} (hd : decode cc pc = .ok (.lshr, 1))  (k : hc_At V E nL X (pc + 1) lv (.long (jlshr x y) :: st) σ am tm) : hc_At V E nL X pc lv (.int y :: .long x :: st) σ am tm :=
  fun ls H locs k9 n9 hl hR h1 h2 => lv_lshr hC.1 hC.2.1 hd rfl (k ls H locs k9 n9 hl hR h1 h2)
theorem hr_lcmp (hC : hc_C V E cc nL own ret d oc σe Y X) {x y : Int64} (hd : decode cc pc = .ok (.lcmp, 1))  (k : hc_At V E nL X (pc + 1) lv (.int (lg_cmp x y) :: st) σ am tm) : hc_At V E nL X pc lv (.long y :: .long x :: st) σ am tm :=
  fun ls H locs k9 n9 hl hR h1 h2 => W.lcmp hC.1 hC.2.1 hd (k ls H locs k9 n9 hl hR h1 h2)
theorem hr_i2l (hC : hc_C V E cc nL own ret d oc σe Y X) {x : Int32} (hd : decode cc pc = .ok (.i2l, 1))  (k : hc_At V E nL X (pc + 1) lv (.long x.toInt64 :: st) σ am tm) : hc_At V E nL X pc lv (.int x :: st) σ am tm :=
  fun ls H locs k9 n9 hl hR h1 h2 => lv_i2l hC.1 hC.2.1 hd rfl (k ls H locs k9 n9 hl hR h1 h2)
theorem hr_l2i (hC : hc_C V E cc nL own ret d oc σe Y X) {x : Int64} (hd : decode cc pc = .ok (.l2i, 1))  (k : hc_At V E nL X (pc + 1) lv (.int x.toInt32 :: st) σ am tm) : hc_At V E nL X pc lv (.long x :: st) σ am tm :=
  fun ls H locs k9 n9 hl hR h1 h2 => lv_l2i hC.1 hC.2.1 hd rfl (k ls H locs k9 n9 hl hR h1 h2)
theorem hr_i2b (hC : hc_C V E cc nL own ret d oc σe Y X) {x : Int32} (hd : decode cc pc = .ok (.i2b, 1))  (k : hc_At V E nL X (pc + 1) lv (.int x.toInt8.toInt32 :: st) σ am tm) : hc_At V E nL X pc lv (.int x :: st) σ am tm :=
  fun ls H locs k9 n9 hl hR h1 h2 => lv_i2b hC.1 hC.2.1 hd rfl (k ls H locs k9 n9 hl hR h1 h2)
theorem hr_i2s (hC : hc_C V E cc nL own ret d oc σe Y X) {x : Int32} (hd : decode cc pc = .ok (.i2s, 1))  (k : hc_At V E nL X (pc + 1) lv (.int x.toInt16.toInt32 :: st) σ am tm) : hc_At V E nL X pc lv (.int x :: st) σ am tm :=
  fun ls H locs k9 n9 hl hR h1 h2 => lv_i2s hC.1 hC.2.1 hd rfl (k ls H locs k9 n9 hl hR h1 h2)
theorem hr_dup (hC : hc_C V E cc nL own ret d oc σe Y X) {u : Value} (hd : decode cc pc = .ok (.dup, 1)) (hu : u.category = 1) (k : hc_At V E nL X (pc + 1) lv (u :: u :: st) σ am tm) : hc_At V E nL X pc lv (u :: st) σ am tm :=
  fun ls H locs k9 n9 hl hR h1 h2 => lv_dup hC.1 hC.2.1 hd hu (k ls H locs k9 n9 hl hR h1 h2)
theorem hr_pop (hC : hc_C V E cc nL own ret d oc σe Y X) {u : Value} (hd : decode cc pc = .ok (.pop, 1)) (hu : u.category = 1) (k : hc_At V E nL X (pc + 1) lv (st) σ am tm) : hc_At V E nL X pc lv (u :: st) σ am tm :=
  fun ls H locs k9 n9 hl hR h1 h2 => lv_pop hC.1 hC.2.1 hd hu (k ls H locs k9 n9 hl hR h1 h2)
theorem hr_dup_x1 (hC : hc_C V E cc nL own ret d oc σe Y X) {u v : Value} (hd : decode cc pc = .ok (.dup_x1, 1)) (hu : u.category = 1) (hv : v.category = 1) (k : hc_At V E nL X (pc + 1) lv (u :: v :: u :: st) σ am tm) : hc_At V E nL X pc lv (u :: v :: st) σ am tm :=
  fun ls H locs k9 n9 hl hR h1 h2 => lv_dup_x1 hC.1 hC.2.1 hd hu hv (k ls H locs k9 n9 hl hR h1 h2)
theorem hr_dup2 (hC : hc_C V E cc nL own ret d oc σe Y X) {u v : Value} (hd : decode cc pc = .ok (.dup2, 1)) (hu : u.category = 1) (hv : v.category = 1) (k : hc_At V E nL X (pc + 1) lv (u :: v :: u :: v :: st) σ am tm) : hc_At V E nL X pc lv (u :: v :: st) σ am tm :=
  fun ls H locs k9 n9 hl hR h1 h2 => lv_dup2_11 hC.1 hC.2.1 hd hu hv (k ls H locs k9 n9 hl hR h1 h2)
theorem hr_if_eq (hC : hc_C V E cc nL own ret d oc σe Y X) {x : Int32} {off : Int} (tgt : Nat) (hd : decode cc pc = .ok (.ifCond .eq off, 3)) (ht : (pc : Int) + off = (tgt : Int)) (kt : x = 0 → hc_At V E nL X tgt lv st σ am tm) (kf : ¬ x = 0 → hc_At V E nL X (pc + 3) lv st σ am tm) : hc_At V E nL X pc lv (.int x :: st) σ am tm :=
  fun ls H locs k9 n9 hl hR h1 h2 => lv_if_eq hC.1 hC.2.1 hd ht (fun z => kt z ls H locs k9 n9 hl hR h1 h2) (fun z => kf z ls H locs k9 n9 hl hR h1 h2)
theorem hr_if_ne (hC : hc_C V E cc nL own ret d oc σe Y X) {x : Int32} {off : Int} (tgt : Nat) (hd : decode cc pc = .ok (.ifCond .ne off, 3)) (ht : (pc : Int) + off = (tgt : Int)) (kt : ¬ x = 0 → hc_At V E nL X tgt lv st σ am tm) (kf : x = 0 → hc_At V E nL X (pc + 3) lv st σ am tm) : hc_At V E nL X pc lv (.int x :: st) σ am tm :=
  fun ls H locs k9 n9 hl hR h1 h2 => lv_if_ne hC.1 hC.2.1 hd ht (fun z => kt z ls H locs k9 n9 hl hR h1 h2) (fun z => kf z ls H locs k9 n9 hl hR h1 h2)
theorem hr_if_lt (hC : hc_C V E cc nL own ret d oc σe Y X) {x : Int32} {off : Int} (tgt : Nat) (hd : decode cc pc = .ok (.ifCond .lt off, 3)) (ht : (pc : Int) + off = (tgt : Int)) (kt : x < 0 → hc_At V E nL X tgt lv st σ am tm) (kf : ¬ x < 0 → hc_At V E nL X (pc + 3) lv st σ am tm) : hc_At V E nL X pc lv (.int x :: st) σ am tm :=
  fun ls H locs k9 n9 hl hR h1 h2 => lv_if_lt hC.1 hC.2.1 hd ht (fun z => kt z ls H locs k9 n9 hl hR h1 h2) (fun z => kf z ls H locs k9 n9 hl hR h1 h2)
theorem hr_if_ge (hC : hc_C V E cc nL own ret d oc σe Y X) {x : Int32} {off : Int} (tgt : Nat) (hd : decode cc pc = .ok (.ifCond .ge off, 3)) (ht : (pc : Int) + off = (tgt : Int)) (kt : 0 ≤ x → hc_At V E nL X tgt lv st σ am tm) (kf : ¬ 0 ≤ x → hc_At V E nL X (pc + 3) lv st σ am tm) : hc_At V E nL X pc lv (.int x :: st) σ am tm :=
  fun ls H locs k9 n9 hl hR h1 h2 => lv_if_ge hC.1 hC.2.1 hd ht (fun z => kt z ls H locs k9 n9 hl hR h1 h2) (fun z => kf z ls H locs k9 n9 hl hR h1 h2)
theorem hr_if_gt (hC : hc_C V E cc nL own ret d oc σe Y X) {x : Int32} {off : Int} (tgt : Nat) (hd : decode cc pc = .ok (.ifCond .gt off, 3)) (ht : (pc : Int) + off = (tgt : Int)) (kt : 0 < x → hc_At V E nL X tgt lv st σ am tm) (kf : ¬ 0 < x → hc_At V E nL X (pc + 3) lv st σ am tm) : hc_At V E nL X pc lv (.int x :: st) σ am tm :=
  fun ls H locs k9 n9 hl hR h1 h2 => lv_if_gt hC.1 hC.2.1 hd ht (fun z => kt z ls H locs k9 n9 hl hR h1 h2) (fun z => kf z ls H locs k9 n9 hl hR h1 h2)
theorem hr_if_le (hC : hc_C V E cc nL own ret d oc σe Y X) {x : Int32} {off : Int} (tgt : Nat) (hd : decode cc pc = .ok (.ifCond .le off, 3)) (ht : (pc : Int) + off = (tgt : Int)) (kt : x ≤ 0 → hc_At V E nL X tgt lv st σ am tm) (kf : ¬ x ≤ 0 → hc_At V E nL X (pc + 3) lv st σ am tm) : hc_At V E nL X pc lv (.int x :: st) σ am tm :=
  fun ls H locs k9 n9 hl hR h1 h2 => lv_if_le hC.1 hC.2.1 hd ht (fun z => kt z ls H locs k9 n9 hl hR h1 h2) (fun z => kf z ls H locs k9 n9 hl hR h1 h2)
theorem hr_icmp_eq (hC : hc_C V E cc nL own ret d oc σe Y X) {x y : Int32} {off : Int} (tgt : Nat) (hd : decode cc pc = .ok (.if_icmp .eq off, 3)) (ht : (pc : Int) + off = (tgt : Int)) (kt : x = y → hc_At V E nL X tgt lv st σ am tm) (kf : ¬ x = y → hc_At V E nL X (pc + 3) lv st σ am tm) : hc_At V E nL X pc lv (.int y :: .int x :: st) σ am tm :=
  fun ls H locs k9 n9 hl hR h1 h2 => lv_icmp_eq hC.1 hC.2.1 hd ht (fun z => kt z ls H locs k9 n9 hl hR h1 h2) (fun z => kf z ls H locs k9 n9 hl hR h1 h2)
theorem hr_icmp_ne (hC : hc_C V E cc nL own ret d oc σe Y X) {x y : Int32} {off : Int} (tgt : Nat) (hd : decode cc pc = .ok (.if_icmp .ne off, 3)) (ht : (pc : Int) + off = (tgt : Int)) (kt : ¬ x = y → hc_At V E nL X tgt lv st σ am tm) (kf : x = y → hc_At V E nL X (pc + 3) lv st σ am tm) : hc_At V E nL X pc lv (.int y :: .int x :: st) σ am tm :=
  fun ls H locs k9 n9 hl hR h1 h2 => lv_icmp_ne hC.1 hC.2.1 hd ht (fun z => kt z ls H locs k9 n9 hl hR h1 h2) (fun z => kf z ls H locs k9 n9 hl hR h1 h2)
theorem hr_icmp_lt (hC : hc_C V E cc nL own ret d oc σe Y X) {x y : Int32} {off : Int} (tgt : Nat) (hd : decode cc pc = .ok (.if_icmp .lt off, 3)) (ht : (pc : Int) + off = (tgt : Int)) (kt : x < y → hc_At V E nL X tgt lv st σ am tm) (kf : ¬ x < y → hc_At V E nL X (pc + 3) lv st σ am tm) : hc_At V E nL X pc lv (.int y :: .int x :: st) σ am tm :=
  fun ls H locs k9 n9 hl hR h1 h2 => lv_icmp_lt hC.1 hC.2.1 hd ht (fun z => kt z ls H locs k9 n9 hl hR h1 h2) (fun z => kf z ls H locs k9 n9 hl hR h1 h2)
theorem hr_icmp_ge (hC : hc_C V E cc nL own ret d oc σe Y X) {x y : Int32} {off : Int} (tgt : Nat) (hd : decode cc pc = .ok (.if_icmp .ge off, 3)) (ht : (pc : Int) + off = (tgt : Int)) (kt : y ≤ x → hc_At V E nL X tgt lv st σ am tm) (kf : ¬ y ≤ x → hc_At V E nL X (pc + 3) lv st σ am tm) : hc_At V E nL X pc lv (.int y :: .int x :: st) σ am tm :=
  fun ls H locs k9 n9 hl hR h1 h2 => lv_icmp_ge hC.1 hC.2.1 hd ht (fun z => kt z ls H locs k9 n9 hl hR h1 h2) (fun z => kf z ls H locs k9 n9 hl hR h1 h2)
theorem hr_icmp_gt (hC : hc_C V E cc nL own ret d oc σe Y X) {x y : Int32} {off : Int} (tgt : Nat) (hd : decode cc pc = .ok (.if_icmp .gt off, 3)) (ht : (pc : Int) + off = (tgt : Int)) (kt : y < x → hc_At V E nL X tgt lv st σ am tm) (kf : ¬ y < x → hc_At V E nL X (pc + 3) lv st σ am tm) : hc_At V E nL X pc lv (.int y :: .int x :: st) σ am tm :=
  fun ls H locs k9 n9 hl hR h1 h2 => lv_icmp_gt hC.1 hC.2.1 hd ht (fun z => kt z ls H locs k9 n9 hl hR h1 h2) (fun z => kf z ls H locs k9 n9 hl hR h1 h2)
theorem hr_icmp_le (hC : hc_C V E cc nL own ret d oc σe Y X) {x y : Int32} {off : Int} (tgt : Nat) (hd : decode cc pc = .ok (.if_icmp .le off, 3)) (ht : (pc : Int) + off = (tgt : Int)) (kt : x ≤ y → hc_At V E nL X tgt lv st σ am tm) (kf : ¬ x ≤ y → hc_At V E nL X (pc + 3) lv st σ am tm) : hc_At V E nL X pc lv (.int y :: .int x :: st) σ am tm :=
  fun ls H locs k9 n9 hl hR h1 h2 => lv_icmp_le hC.1 hC.2.1 hd ht (fun z => kt z ls H locs k9 n9 hl hR h1 h2) (fun z => kf z ls H locs k9 n9 hl hR h1 h2)
theorem hr_goto (hC : hc_C V E cc nL own ret d oc σe Y X) {off : Int} (tgt : Nat) (hd : decode cc pc = .ok (.goto off, 3)) (ht : (pc : Int) + off = (tgt : Int)) (k : hc_At V E nL X tgt lv st σ am tm) : hc_At V E nL X pc lv st σ am tm :=
  fun ls H locs k9 n9 hl hR h1 h2 => lv_goto hC.1 hC.2.1 hd ht (k ls H locs k9 n9 hl hR h1 h2)
theorem hr_lookup (hC : hc_C V E cc nL own ret d oc σe Y X) {dflt : Int} {ps : Array (Int × Int)} {len : Nat} {x : Int32} {off : Int} (tgt : Nat) (hd : decode cc pc = .ok (.lookupswitch dflt ps, len)) (hp : (ps.toList.zip (ps.toList.drop 1)).all (fun (a, next) => a.1 < next.1) = true) (ho : Op.lookupswitch.offset ps.toList dflt x.toInt = off) (ht : (pc : Int) + off = (tgt : Int)) (k : hc_At V E nL X tgt lv st σ am tm) : hc_At V E nL X pc lv (.int x :: st) σ am tm :=
  fun ls H locs k9 n9 hl hR h1 h2 => lv_lookup hC.1 hC.2.1 hd hp ho ht (k ls H locs k9 n9 hl hR h1 h2)
theorem hr_tableIn (hC : hc_C V E cc nL own ret d oc σe Y X) {dflt lo hi : Int} {offs : Array Int} {len : Nat} {x : Int32} {off : Int} (tgt : Nat) (hd : decode cc pc = .ok (.tableswitch dflt lo hi offs, len)) (g1 : ¬ x.toInt < lo) (g2 : ¬ hi < x.toInt) (ho : offs[(x.toInt - lo).toNat]? = some off) (ht : (pc : Int) + off = (tgt : Int)) (k : hc_At V E nL X tgt lv st σ am tm) : hc_At V E nL X pc lv (.int x :: st) σ am tm :=
  fun ls H locs k9 n9 hl hR h1 h2 => lv_tableIn hC.1 hC.2.1 hd g1 g2 ho ht (k ls H locs k9 n9 hl hR h1 h2)
theorem hr_tableOut (hC : hc_C V E cc nL own ret d oc σe Y X) {dflt lo hi : Int} {offs : Array Int} {len : Nat} {x : Int32} (tgt : Nat) (hd : decode cc pc = .ok (.tableswitch dflt lo hi offs, len)) (g1 : x.toInt < lo ∨ hi < x.toInt) (ht : (pc : Int) + dflt = (tgt : Int)) (k : hc_At V E nL X tgt lv st σ am tm) : hc_At V E nL X pc lv (.int x :: st) σ am tm :=
  fun ls H locs k9 n9 hl hR h1 h2 => lv_tableOut hC.1 hC.2.1 hd g1 ht (k ls H locs k9 n9 hl hR h1 h2)
end HCR
