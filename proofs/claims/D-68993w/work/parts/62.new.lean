/-! ===== constructors: a world that grows, the newest first ===== -/
section HNI
variable {p : Program} {l : Launch} {e : Env} {R : Room} {s : State} {m : MethodId} {args : Array Value} {below : List Frame} {meth : Method} {c : Code} {T : State} {locs : List Loc} {cells slots : Nat}
theorem hc_runI (X : Stand p l e R s m args below meth c T locs cells slots) (hexec : p.tables.exec = Jvm.exec) {own : String} {index : Nat} {y : MethodName} {bytes : ByteArray} {maxL : Nat}
    (hown : s.vm.findClass own = some m.cls) (hy1 : y.name = "<init>") (hlink : (Cond.methodLink own index y).before args s = true) (hinst : (Cond.instanceMethod y).before args s = true)
    (hcode : (Cond.code y bytes maxL none).before args s = true) (hy : y.cls ≠ "java/lang/invoke/MethodHandle" ∧ y.cls ≠ "java/lang/invoke/VarHandle")
    {ws : List Cond} {rm : Room} {Pc : Array Value → State → Prop} {Qc : Array Value → State → Outcome → State → Prop} {free : Addr → Prop} {K : Nat → Nat → Prop} {Wd : Nat}
    (hM : hc_Mt l y ws rm Pc Qc free K) (hframes : rm.frames + 1 ≤ R.frames) (hlocals : Wd + (maxL + 11) + rm.locals ≤ R.locals)
    (hws : ∀ w ∈ ws, ∀ (a' : Array Value) (U : State), s.WarmedH U.vm → w.before a' U = true) (hcw : Cond.code y bytes maxL none ∈ ws) (hinit : (Cond.initialized y.cls).before args s = true)
    {b : Addr} {g : JFrame} (hg : g.method = m) (hsize : g.locals.size = c.maxLocals) {argsL rest : List Value} (hlen : ∀ sig, parseMethodDescriptor y.desc = some sig → argsL.length = sig.parameters.length)
    (hstack : g.stack = argsL.reverse ++ .ref b :: rest) (hW : 2 * g.monitorRoom + (rest.map fun v => v.category).sum ≤ Wd) (hdg : decode c.code g.pc = .ok (.invokespecial index, 3))
    (hc : cells + rm.cells ≤ R.cells) (hs : slots + rm.slots ≤ R.slots) (hP : ∀ vm₁ g1 mk, s.WarmedH vm₁ → Pc (Value.ref b :: argsL).toArray ((T.setVm vm₁).calling g1 mk (Value.ref b :: argsL).toArray)) :
    hc_Behind p l e R s m args below meth c T locs cells slots Qc (Value.ref b :: argsL).toArray free K g rest := by
  subst hg
  have hpl : e.platform.magicAccessors = ({} : Platform).magicAccessors := by rw [X.admits.platform]
  obtain ⟨mk, methM, cM, kP, vm₁, hnamed, hmethM, hcodeM, -, hlocalsM, -, hkP, -, hW₁, hstep₁⟩ := Steps.initColdArgs (e := e) X.here hexec X.warmed hpl hown hy1 hy hlink hinst hcode (f := g) rfl hlen hstack hdg
  have X₁ := X.noted hW₁
  obtain ⟨o, t, B, L, k, n, X', e1, e2, hq, hK, hL, hst, hr, hx⟩ := hc_back hM hframes hlocals hws hcw hinit X₁ (g := { g with stack := rest }) (ig := .invokespecial index) (mk := mk) (a := (Value.ref b :: argsL).toArray) rfl hsize hdg hW (X₁.named hnamed) hc hs (hP vm₁ _ _ X₁.warmed)
  refine ⟨o, t, B, L, k, n, vm₁, _, mk, X', e1, e2, hq, hK, hL, fun v hv target h => ?_, fun x hv target h => ?_⟩
  · exact hstep₁ _ fun acts => by rw [doInvoke_state]; exact hst.trans (by rw [hr v hv]; exact h)
  · exact hstep₁ _ fun acts => by rw [doInvoke_state]; exact hst.trans (by rw [hx x hv]; exact h)
theorem hc_runIN (X : Stand p l e R s m args below meth c T locs cells slots) (hexec : p.tables.exec = Jvm.exec) {own host : String} {index : Nat} {y : MethodName} {bytes : ByteArray} {maxL : Nat}
    (hown : s.vm.findClass own = some m.cls) (hy1 : y.name = "<init>") (hlink : (Cond.methodLinkNest own index y host).before args s = true) (hinst : (Cond.instanceMethod y).before args s = true)
    (hcode : (Cond.code y bytes maxL none).before args s = true) (hy : y.cls ≠ "java/lang/invoke/MethodHandle" ∧ y.cls ≠ "java/lang/invoke/VarHandle")
    {ws : List Cond} {rm : Room} {Pc : Array Value → State → Prop} {Qc : Array Value → State → Outcome → State → Prop} {free : Addr → Prop} {K : Nat → Nat → Prop} {Wd : Nat}
    (hM : hc_Mt l y ws rm Pc Qc free K) (hframes : rm.frames + 1 ≤ R.frames) (hlocals : Wd + (maxL + 11) + rm.locals ≤ R.locals)
    (hws : ∀ w ∈ ws, ∀ (a' : Array Value) (U : State), s.WarmedH U.vm → w.before a' U = true) (hcw : Cond.code y bytes maxL none ∈ ws) (hinit : (Cond.initialized y.cls).before args s = true)
    {b : Addr} {g : JFrame} (hg : g.method = m) (hsize : g.locals.size = c.maxLocals) {argsL rest : List Value} (hlen : ∀ sig, parseMethodDescriptor y.desc = some sig → argsL.length = sig.parameters.length)
    (hstack : g.stack = argsL.reverse ++ .ref b :: rest) (hW : 2 * g.monitorRoom + (rest.map fun v => v.category).sum ≤ Wd) (hdg : decode c.code g.pc = .ok (.invokespecial index, 3))
    (hc : cells + rm.cells ≤ R.cells) (hs : slots + rm.slots ≤ R.slots) (hP : ∀ vm₁ g1 mk, s.WarmedH vm₁ → Pc (Value.ref b :: argsL).toArray ((T.setVm vm₁).calling g1 mk (Value.ref b :: argsL).toArray)) :
    hc_Behind p l e R s m args below meth c T locs cells slots Qc (Value.ref b :: argsL).toArray free K g rest := by
  subst hg
  have hpl : e.platform.magicAccessors = ({} : Platform).magicAccessors := by rw [X.admits.platform]
  obtain ⟨mk, methM, cM, kP, vm₁, hnamed, hmethM, hcodeM, -, hlocalsM, -, hkP, -, hW₁, hstep₁⟩ := Steps.initColdArgsNest (e := e) X.here hexec X.warmed hpl hown hy1 hy hlink hinst hcode (f := g) rfl hlen hstack hdg
  have X₁ := X.noted hW₁
  obtain ⟨o, t, B, L, k, n, X', e1, e2, hq, hK, hL, hst, hr, hx⟩ := hc_back hM hframes hlocals hws hcw hinit X₁ (g := { g with stack := rest }) (ig := .invokespecial index) (mk := mk) (a := (Value.ref b :: argsL).toArray) rfl hsize hdg hW (X₁.named hnamed) hc hs (hP vm₁ _ _ X₁.warmed)
  refine ⟨o, t, B, L, k, n, vm₁, _, mk, X', e1, e2, hq, hK, hL, fun v hv target h => ?_, fun x hv target h => ?_⟩
  · exact hstep₁ _ fun acts => by rw [doInvoke_state]; exact hst.trans (by rw [hr v hv]; exact h)
  · exact hstep₁ _ fun acts => by rw [doInvoke_state]; exact hst.trans (by rw [hx x hv]; exact h)
end HNI
theorem hn_rP {D : va_G} {cl : List vw_C} {ws : va_W} {x : Nat × va_E} {H : Heap} (h : va_P D cl (ws ++ [x]) H) : va_P D cl (x :: ws) H := by
  intro k q hk
  have hm : q ∈ ws ++ [x] := by
    rcases List.mem_cons.mp (List.mem_of_getElem? hk) with z | z
    · subst z; simp
    · simp [z]
  obtain ⟨i, hi⟩ := List.getElem?_of_mem hm
  exact h i q hi
theorem hn_rD {A : Nat → Prop} {ws : va_W} {x : Nat × va_E} (h : va_D A (ws ++ [x])) : va_D A (x :: ws) := by
  have key : ∀ (k : Nat) (q : Nat × va_E), (x :: ws)[k]? = some q → (ws ++ [x])[if k = 0 then ws.length else k - 1]? = some q ∧ k ≤ ws.length := by
    intro k q hk
    cases k with
    | zero =>
      simp only [List.getElem?_cons_zero, Option.some.injEq] at hk
      subst hk
      simp
    | succ k =>
      simp only [List.getElem?_cons_succ] at hk
      have hl := (List.getElem?_eq_some_iff.mp hk).1
      simp only [Nat.add_one_ne_zero, if_false, Nat.add_sub_cancel]
      rw [List.getElem?_append_left hl]
      exact ⟨hk, hl⟩
  refine ⟨fun i j p q hi hj he => ?_, fun k q hk => h.2 _ q (key k q hk).1⟩
  have h1 := h.1 _ _ p q (key i p hi).1 (key j q hj).1 he
  have h2 := (key i p hi).2
  have h3 := (key j q hj).2
  split at h1 <;> split at h1 <;> omega
def hn_nm : List (String × Nat × MethodName) := [("HomeCompiler", 9, ⟨"HomeCompiler$Words", "<init>", "()V"⟩), ("HomeCompiler", 18, ⟨"HomeCompiler$Names", "<init>", "()V"⟩), ("HomeCompiler", 25, ⟨"HomeCompiler$Bytes", "<init>", "()V"⟩), ("HomeCompiler", 41, ⟨"HomeCompiler$Nodes", "<init>", "()V"⟩), ("HomeCompiler", 66, ⟨"HomeCompiler$Emitter", "<init>", "()V"⟩), ("HomeCompiler", 82, ⟨"HomeCompiler$Host", "<init>", "()V"⟩), ("HomeCompiler", 25, ⟨"HomeCompiler$Bytes", "<init>", "()V"⟩), ("HomeCompiler$Names", 11, ⟨"HomeCompiler$Bytes", "<init>", "()V"⟩), ("HomeCompiler$Checker", 11, ⟨"HomeCompiler$Wrong", "<init>", "()V"⟩), ("HomeCompiler$Checker", 20, ⟨"HomeCompiler$Symbols", "<init>", "()V"⟩), ("HomeCompiler$Checker", 27, ⟨"HomeCompiler$Variables", "<init>", "()V"⟩), ("HomeCompiler$Checker", 34, ⟨"HomeCompiler$Bytes", "<init>", "()V"⟩)]
/-- what constructors need besides: arrays of String, links to nest mates' constructors -/
def hn_K (U : State) : Prop := va_AO "java/lang/String" U ∧ ∀ q ∈ hn_nm, va_Nw (.methodLinkNest q.1 q.2.1 q.2.2 "HomeCompiler") U
theorem hn_K.moved {u U : State} (hW : u.WarmedH U.vm) (h : hn_K u) : hn_K U := ⟨va_AO.moved hW.alike h.1, fun q hq => va_Nw.warmM hW (h.2 q hq)⟩
def hn_R (E : hc_E) (X : hc_X) (ws : va_W) (H : Heap) (locs : List Loc) : Prop := va_P E.1 hc_cl ws H ∧ va_D X.2.2.2.2.2.2.2.2.2.2.1 ws ∧ va_S X.2.2.2.2.2.2.2.2.2.2.1 X.2.2.2.2.1.heap H locs
def hn_C (E : hc_E) (cc : ByteArray) (nL : Nat) (own : String) (ret : Option FieldType) (d : Nat) (Po : Outcome → State → Prop) (ce se : Nat) (Y : hc_Y) (X : hc_X) : Prop :=
  X.1.tables.exec = Jvm.exec ∧ X.2.2.2.2.2.2.2.2.2.1.code = cc ∧ X.2.2.2.2.2.2.2.2.2.1.maxLocals = nL ∧ X.2.2.2.2.1.vm.findClass own = some X.2.2.2.2.2.1.cls ∧ (∀ w ∈ lw_all, w.before X.2.2.2.2.2.2.1 X.2.2.2.2.1 = true) ∧ X.2.2.2.2.2.2.2.2.1.sig.returnType = ret ∧ X.2.2.2.2.2.2.2.2.1.locks = false ∧
  va_K E.1 hc_cl (hc_tys E) X.2.2.2.2.1 ∧ hc_J0 E X.2.2.2.2.2.2.2.2.2.2.1 X.2.2.2.2.1 X.2.2.2.2.1.heap ∧ hn_K X.2.2.2.2.1 ∧ (∀ q, X.2.2.2.2.1.heap.size ≤ q → X.2.2.2.2.2.2.2.2.2.2.1 q) ∧ X.2.2.2.1.frames = d ∧ X.2.2.2.1.locals = 46 * d ∧ True ∧
  X.2.2.2.2.2.2.2.2.2.2.2.1 = hc_MQ X.2.2.2.2.2.2.2.1 (fun _ st o t => Po o t ∧ va_F X.2.2.2.2.2.2.2.2.2.2.1 st t) X.2.2.2.2.2.2.1 X.2.2.2.2.1 X.2.2.2.2.2.2.2.2.2.2.1 (fun k n => ce + k = X.2.2.2.1.cells ∧ se + n = X.2.2.2.1.slots) ∧ X.2.1 = Y.1 ∧ X.2.2.2.2.2.2.2.2.2.2.1 = Y.2.1 ∧ True ∧ True ∧ hc_nt Y.1
def hn_At (E : hc_E) (nL : Nat) (X : hc_X) (pc : Nat) (lv : List (Nat × Value)) (st : List Value) (ws : va_W) (c0 s0 : Nat) : Prop :=
  ∀ (ls : Array Slot) (H : Heap) (locs : List Loc) (k n : Nat), lv_has ls nL lv → hn_R E X ws H locs → c0 + k = X.2.2.2.1.cells → s0 + n = X.2.2.2.1.slots →
    W X.1 X.2.1 X.2.2.1 X.2.2.2.1 X.2.2.2.2.1 X.2.2.2.2.2.1 X.2.2.2.2.2.2.1 X.2.2.2.2.2.2.2.1 X.2.2.2.2.2.2.2.2.1 X.2.2.2.2.2.2.2.2.2.1 H locs k n X.2.2.2.2.2.2.2.2.2.2.2.1 (F0 X.2.2.2.2.2.1 pc ls st)
def hn_Pre (E : hc_E) (A : Nat → Prop) (ws : va_W) (U : State) : Prop :=
  va_P E.1 hc_cl ws U.heap ∧ va_D A ws ∧ va_K E.1 hc_cl (hc_tys E) U ∧ hc_J0 E A U U.heap ∧ hn_K U ∧ ∀ q, U.heap.size ≤ q → A q
def hn_Po (E : hc_E) (A : Nat → Prop) (v : Option Value) (F : (Nat → Nat) → va_W) (o : Outcome) (t : State) : Prop := ∃ qs : Nat → Nat, o = .returned v ∧ va_P E.1 hc_cl (F qs) t.heap ∧ va_D A (F qs)
def hn_M (l : Launch) (y : MethodName) (wy : List Cond) (d : Nat) (E : hc_E) (A : Nat → Prop) (a : List Value) (ws0 : va_W) (c0 s0 : Nat) (v : Option Value) (F : (Nat → Nat) → va_W) (c1 s1 : Nat) : Prop :=
  hc_nt l → hc_Mt l y wy ({ frames := d, cells := c0, slots := s0, locals := 46 * d } : Room) (fun ar U => ar = a.toArray ∧ hn_Pre E A ws0 U) (fun _ st o t => hn_Po E A v F o t ∧ va_F A st t) A (fun k n => c1 + k = c0 ∧ s1 + n = s0)
/-- Strings by their numbers -/
def hn_sf (E : hc_E) (L : List Nat) : Nat → Option Nat := fun i => (L[i]?).map E.2.2.2.1
theorem hn_sf_up (E : hc_E) (L : List Nat) (v : Nat) : va_up (hn_sf E L) L.length (some (E.2.2.2.1 v)) = hn_sf E (L ++ [v]) := by
  funext i
  by_cases h : i = L.length
  · subst h; simp [va_up, hn_sf]
  · by_cases h2 : i < L.length
    · simp [va_up, hn_sf, h, List.getElem?_append_left h2]
    · simp only [va_up, hn_sf, h, if_false]
      rw [List.getElem?_eq_none (by omega), List.getElem?_eq_none (by simp; omega)]
section HN
variable {E : hc_E} {cc : ByteArray} {nL d pc : Nat} {own : String} {ret : Option FieldType} {Po : Outcome → State → Prop} {ce se : Nat} {Y : hc_Y} {X : hc_X} {lv lv' : List (Nat × Value)} {st : List Value} {ws9 : va_W} {c9 s9 : Nat}
theorem hn_conv {ws' : va_W} (h : ws9 = ws') (k : hn_At E nL X pc lv st ws' c9 s9) : hn_At E nL X pc lv st ws9 c9 s9 := by rw [h]; exact k
theorem hn_J (hC : hn_C E cc nL own ret d Po ce se Y X) {H : Heap} {locs : List Loc} (hR : hn_R E X ws9 H locs) : hc_J0 E X.2.2.2.2.2.2.2.2.2.2.1 X.2.2.2.2.1 H :=
  hc_J0_st E _ _ X.2.2.2.2.1 H hC.2.2.2.2.2.2.2.2.1 (State.WarmedH.refl _) (fun a h1 h2 => hR.2.2.2.1 a h1 h2)
theorem hn_new (hC : hn_C E cc nL own ret d Po ce se Y X) {C : String} {T : u_T} {N ci idx : Nat} {fs : List Value} (ty : Nat → FieldType) (hd : decode cc pc = .ok (.new idx, 3)) (hty : ∀ k, k < N → parseFieldDescriptor (T k).2.2.1 = some (ty k)) (hin : ∀ w ∈ u_ws C T N, w ∈ lw_all) (hcl : Cond.classLink own idx C ∈ lw_all) (hinst : Cond.instantiable C N ∈ lw_all) (hini : Cond.initialized C ∈ lw_all) (hc : hc_cl[ci]? = some (C, T, N)) (hfs : ∀ j, j < N → defaultValue (ty j) = vp_V fs j)
    {c8 s8 : Nat} (hcc : c9 + 1 = c8) (hss : s9 + N = s8) (k : ∀ q : Nat, hn_At E nL X (pc + 3) lv (.ref q :: st) ((q, .inr (ci, fs)) :: ws9) c9 s9) : hn_At E nL X pc lv st ws9 c8 s8 := by
  intro ls H locs k9 n9 hl hR h1 h2
  refine va_new (Ts := lw_all) (T := T) (C := C) hC.1 hC.2.1 hC.2.2.2.2.1 hin ty hty hC.2.2.2.1 (hC.2.2.2.2.1 _ hcl) (hC.2.2.2.2.1 _ hinst) (hC.2.2.2.2.1 _ hini) hC.2.2.2.2.2.2.2.1 hR.1 hR.2.1 hR.2.2 hC.2.2.2.2.2.2.2.2.2.2.1 hc hfs (by omega) (by omega) hd (fun q H1 a b c => ?_)
  exact k q ls H1 locs (k9 + 1) (n9 + N) hl ⟨hn_rP a, hn_rD b, c⟩ (by omega) (by omega)
theorem hn_newI (hC : hn_C E cc nL own ret d Po ce se Y X) {n : Int32} (N' : Nat) (hd : decode cc pc = .ok (.newarray .int, 2)) (harr : Cond.arrayClass .int ∈ lw_all) (hn : ¬ n < 0) (hN : n.toNatClampNeg = N') (hb : N' ≤ 10000000)
    {c8 s8 : Nat} (hcc : c9 + 1 = c8) (hss : s9 + N' = s8) (k : ∀ q : Nat, hn_At E nL X (pc + 2) lv (.ref q :: st) ((q, .inl (E.2.2.1 1, N', .inl (fun _ => 0))) :: ws9) c9 s9) : hn_At E nL X pc lv (.int n :: st) ws9 c8 s8 := by
  intro ls H locs k9 n9 hl hR h1 h2
  refine va_newa hC.1 hC.2.1 (atype := .int) (hC.2.2.2.2.1 _ harr) (ty := .int) rfl hC.2.2.2.2.2.2.2.1 hR.1 hR.2.1 hR.2.2 hC.2.2.2.2.2.2.2.2.2.2.1 (a0 := (N', .inl (fun _ => 0))) (fun _ => rfl) hn hN (by show N' * 4 ≤ _; omega) (by omega) (by omega) hd (fun q cA H1 a b c e => ?_)
  have hcA : cA = E.2.2.1 1 := by
    have q1 := (a.2 ((hc_tys E).length) (cA, .int) (by simp)).2
    have q2 := (hC.2.2.2.2.2.2.2.1.2 0 (E.2.2.1 1, .int) rfl).2
    exact Option.some.inj (q1.symm.trans q2)
  subst hcA
  exact k q ls H1 locs (k9 + 1) (n9 + N') hl ⟨hn_rP b, hn_rD c, e⟩ (by omega) (by omega)
theorem hn_newB (hC : hn_C E cc nL own ret d Po ce se Y X) {n : Int32} (N' : Nat) (hd : decode cc pc = .ok (.newarray .byte, 2)) (harr : Cond.arrayClass .byte ∈ lw_all) (hn : ¬ n < 0) (hN : n.toNatClampNeg = N') (hb : N' ≤ 10000000)
    {c8 s8 : Nat} (hcc : c9 + 1 = c8) (hss : s9 + N' = s8) (k : ∀ q : Nat, hn_At E nL X (pc + 2) lv (.ref q :: st) ((q, .inl (E.2.2.1 2, N', .inl (fun _ => 0))) :: ws9) c9 s9) : hn_At E nL X pc lv (.int n :: st) ws9 c8 s8 := by
  intro ls H locs k9 n9 hl hR h1 h2
  refine va_newa hC.1 hC.2.1 (atype := .byte) (hC.2.2.2.2.1 _ harr) (ty := .byte) rfl hC.2.2.2.2.2.2.2.1 hR.1 hR.2.1 hR.2.2 hC.2.2.2.2.2.2.2.2.2.2.1 (a0 := (N', .inl (fun _ => 0))) (fun _ => rfl) hn hN (by show N' * 1 ≤ _; omega) (by omega) (by omega) hd (fun q cA H1 a b c e => ?_)
  have hcA : cA = E.2.2.1 2 := by
    have q1 := (a.2 ((hc_tys E).length) (cA, .byte) (by simp)).2
    have q2 := (hC.2.2.2.2.2.2.2.1.2 1 (E.2.2.1 2, .byte) rfl).2
    exact Option.some.inj (q1.symm.trans q2)
  subst hcA
  exact k q ls H1 locs (k9 + 1) (n9 + N') hl ⟨hn_rP b, hn_rD c, e⟩ (by omega) (by omega)
theorem hn_newZ (hC : hn_C E cc nL own ret d Po ce se Y X) {n : Int32} (N' : Nat) (hd : decode cc pc = .ok (.newarray .boolean, 2)) (harr : Cond.arrayClass .boolean ∈ lw_all) (hn : ¬ n < 0) (hN : n.toNatClampNeg = N') (hb : N' ≤ 10000000)
    {c8 s8 : Nat} (hcc : c9 + 1 = c8) (hss : s9 + N' = s8) (k : ∀ q : Nat, hn_At E nL X (pc + 2) lv (.ref q :: st) ((q, .inl (E.2.2.1 3, N', .inl (fun _ => 0))) :: ws9) c9 s9) : hn_At E nL X pc lv (.int n :: st) ws9 c8 s8 := by
  intro ls H locs k9 n9 hl hR h1 h2
  refine va_newa hC.1 hC.2.1 (atype := .boolean) (hC.2.2.2.2.1 _ harr) (ty := .boolean) rfl hC.2.2.2.2.2.2.2.1 hR.1 hR.2.1 hR.2.2 hC.2.2.2.2.2.2.2.2.2.2.1 (a0 := (N', .inl (fun _ => 0))) (fun _ => rfl) hn hN (by show N' * 1 ≤ _; omega) (by omega) (by omega) hd (fun q cA H1 a b c e => ?_)
  have hcA : cA = E.2.2.1 3 := by
    have q1 := (a.2 ((hc_tys E).length) (cA, .boolean) (by simp)).2
    have q2 := (hC.2.2.2.2.2.2.2.1.2 2 (E.2.2.1 3, .boolean) rfl).2
    exact Option.some.inj (q1.symm.trans q2)
  subst hcA
  exact k q ls H1 locs (k9 + 1) (n9 + N') hl ⟨hn_rP b, hn_rD c, e⟩ (by omega) (by omega)
theorem hn_newL (hC : hn_C E cc nL own ret d Po ce se Y X) {n : Int32} (N' : Nat) (hd : decode cc pc = .ok (.newarray .long, 2)) (harr : Cond.arrayClass .long ∈ lw_all) (hn : ¬ n < 0) (hN : n.toNatClampNeg = N') (hb : N' ≤ 10000000)
    {c8 s8 : Nat} (hcc : c9 + 1 = c8) (hss : s9 + N' = s8) (k : ∀ q : Nat, hn_At E nL X (pc + 2) lv (.ref q :: st) ((q, .inl (E.2.2.1 7, N', .inr (.inl (fun _ => 0)))) :: ws9) c9 s9) : hn_At E nL X pc lv (.int n :: st) ws9 c8 s8 := by
  intro ls H locs k9 n9 hl hR h1 h2
  refine va_newa hC.1 hC.2.1 (atype := .long) (hC.2.2.2.2.1 _ harr) (ty := .long) rfl hC.2.2.2.2.2.2.2.1 hR.1 hR.2.1 hR.2.2 hC.2.2.2.2.2.2.2.2.2.2.1 (a0 := (N', .inr (.inl (fun _ => 0)))) (fun _ => rfl) hn hN (by show N' * 8 ≤ _; omega) (by omega) (by omega) hd (fun q cA H1 a b c e => ?_)
  have hcA : cA = E.2.2.1 7 := by
    have q1 := (a.2 ((hc_tys E).length) (cA, .long) (by simp)).2
    have q2 := (hC.2.2.2.2.2.2.2.1.2 4 (E.2.2.1 7, .long) rfl).2
    exact Option.some.inj (q1.symm.trans q2)
  subst hcA
  exact k q ls H1 locs (k9 + 1) (n9 + N') hl ⟨hn_rP b, hn_rD c, e⟩ (by omega) (by omega)
theorem hn_newS (hC : hn_C E cc nL own ret d Po ce se Y X) {n : Int32} {idx : Nat} (N' : Nat) (hd : decode cc pc = .ok (.anewarray idx, 3)) (hcl : Cond.classLink own idx "java/lang/String" ∈ lw_all) (hn : ¬ n < 0) (hN : n.toNatClampNeg = N') (hb : N' ≤ 10000000)
    {c8 s8 : Nat} (hcc : c9 + 1 = c8) (hss : s9 + N' = s8) (k : ∀ q : Nat, hn_At E nL X (pc + 3) lv (.ref q :: st) ((q, .inl (E.2.2.1 4, N', .inr (.inr (.inr (.inr (hn_sf E [])))))) :: ws9) c9 s9) : hn_At E nL X pc lv (.int n :: st) ws9 c8 s8 := by
  intro ls H locs k9 n9 hl hR h1 h2
  refine va_newq hC.1 hC.2.1 hC.2.2.2.1 (hC.2.2.2.2.1 _ hcl) hC.2.2.2.2.2.2.2.2.2.1.1 hC.2.2.2.2.2.2.2.1 hR.1 hR.2.1 hR.2.2 hC.2.2.2.2.2.2.2.2.2.2.1 hn hN (by omega) (by omega) (by omega) hd (fun q cA H1 a b c e => ?_)
  have hcA : cA = E.2.2.1 4 := by
    obtain ⟨kA, comp, k1, k2, k3, q1⟩ := (a.2 ((hc_tys E).length) (cA, .object "java/lang/String") (by simp)).2
    obtain ⟨kA', comp', k1', k2', k3', q2⟩ := (hC.2.2.2.2.2.2.2.1.2 3 (E.2.2.1 4, .object "java/lang/String") rfl).2
    exact Option.some.inj (q1.symm.trans q2)
  subst hcA
  exact k q ls H1 locs (k9 + 1) (n9 + N') hl ⟨hn_rP b, hn_rD c, e⟩ (by omega) (by omega)
theorem hn_astS (hC : hn_C E cc nL own ret d Po ce se Y X) {i : Int32} {a n w : Nat} {L : List Nat} (j : Nat) (L' : List Nat) (hd : decode cc pc = .ok (.aastore, 1)) (he : ws9[j]? = some (a, .inl (E.2.2.1 4, n, .inr (.inr (.inr (.inr (hn_sf E L))))))) (hi : i.toNatClampNeg = L.length) (hin : vp_in i n) (hw : w < hs_L.length) (hL : L ++ [w] = L')
    (k : hn_At E nL X (pc + 1) lv st (ws9.set j (a, .inl (E.2.2.1 4, n, .inr (.inr (.inr (.inr (hn_sf E L')))))))  c9 s9) : hn_At E nL X pc lv (.ref (E.2.2.2.1 w) :: .int i :: .ref a :: st) ws9 c9 s9 := by
  intro ls H locs k9 n9 hl hR h1 h2
  subst hL
  obtain ⟨cell, z1, z2, z3, -⟩ := ((hn_J hC hR).1.1 w hw).1
  refine vb_astq (C := "java/lang/String") hC.1 hC.2.1 hC.2.2.2.2.2.2.2.1 hR.1 hR.2.1 hR.2.2 j 3 he rfl ⟨cell, z1, z2, z3⟩ (fun comp c0 h1 h2 => vb_asgS comp c0 h1 h2) hin hd (fun H1 locs1 a b c => ?_)
  rw [hi, hn_sf_up] at a b
  exact k ls H1 locs1 k9 n9 hl ⟨a, b, c⟩ h1 h2
theorem hn_iast (hC : hn_C E cc nL own ret d Po ce se Y X) {i x : Int32} {a n : Nat} {f : Nat → Int32} (j i' : Nat) (hd : decode cc pc = .ok (.iastore, 1)) (he : ws9[j]? = some (a, .inl (E.2.2.1 1, n, .inl f))) (hi : i.toNatClampNeg = i') (hin : vp_in i n)
    (k : hn_At E nL X (pc + 1) lv st (ws9.set j (a, .inl (E.2.2.1 1, n, .inl (upd f i' x)))) c9 s9) : hn_At E nL X pc lv (.int x :: .int i :: .ref a :: st) ws9 c9 s9 := by
  intro ls H locs k9 n9 hl hR h1 h2
  subst hi
  exact va_iast hC.1 hC.2.1 hC.2.2.2.2.2.2.2.1 hR.1 hR.2.1 hR.2.2 j 0 he rfl hin hd (fun H1 locs1 a b c => k ls H1 locs1 k9 n9 hl ⟨a, b, c⟩ h1 h2)
theorem hn_get (hC : hn_C E cc nL own ret d Po ce se Y X) {C : String} {T : u_T} {N ci idx a : Nat} {v : Value} {fs : List Value} (j f : Nat) (hd : decode cc pc = .ok (.getfield idx, 3)) (hlk : Cond.fieldLink own idx C (T f).2.1 (T f).2.2.1 ∈ lw_all) (hin : ∀ w ∈ u_ws C T N, w ∈ lw_all) (hc : hc_cl[ci]? = some (C, T, N)) (hT : (T f).1 = C) (he : ws9[j]? = some (a, .inr (ci, fs))) (hf : f < N) (hv : fs[f]? = some v)
    (k : hn_At E nL X (pc + 3) lv (v :: st) ws9 c9 s9) : hn_At E nL X pc lv (.ref a :: st) ws9 c9 s9 := by
  intro ls H locs k9 n9 hl hR h1 h2
  exact va_get (Ts := lw_all) (T := T) (C := C) hC.1 hC.2.1 hC.2.2.2.2.1 hin hC.2.2.2.1 hC.2.2.2.2.2.2.2.1 hR.1 j he hc f hf (hC.2.2.2.2.1 _ hlk) (fun x hx => by rw [hT] at hx; exact hx) hv hd (k ls H locs k9 n9 hl hR h1 h2)
theorem hn_put (hC : hn_C E cc nL own ret d Po ce se Y X) {C : String} {T : u_T} {N ci idx a : Nat} {v : Value} {fs : List Value} (j f : Nat) (ty0 : Nat → FieldType) (hd : decode cc pc = .ok (.putfield idx, 3)) (hlk : Cond.fieldLink own idx C (T f).2.1 (T f).2.2.1 ∈ lw_all) (hin : ∀ w ∈ u_ws C T N, w ∈ lw_all) (hty : ∀ k, k < N → parseFieldDescriptor (T k).2.2.1 = some (ty0 k)) (hnm : ∀ a, a < N → ∀ b, b < N → a ≠ b → (T a).2.1 ≠ (T b).2.1) (hc : hc_cl[ci]? = some (C, T, N)) (hT : (T f).1 = C) (he : ws9[j]? = some (a, .inr (ci, fs))) (hf : f < N) (hfin : (T f).2.2.2 = false) (hn : narrow (ty0 f) v = v) (hfit : fits (ty0 f) v = true) (hl9 : f < fs.length)
    (k : hn_At E nL X (pc + 3) lv st (ws9.set j (a, .inr (ci, fs.set f v))) c9 s9) : hn_At E nL X pc lv (v :: .ref a :: st) ws9 c9 s9 := by
  intro ls H locs k9 n9 hl hR h1 h2
  exact va_put (Ts := lw_all) (T := T) (C := C) hC.1 hC.2.1 hC.2.2.2.2.1 hin ty0 hty hnm hC.2.2.2.1 hC.2.2.2.2.2.2.2.1 hR.1 hR.2.1 hR.2.2 j he hc f hf (hC.2.2.2.2.1 _ hlk) (fun x hx => by rw [hT] at hx; exact hx) hfin (hty f hf) hn hfit hl9 hd (fun H1 locs1 a b c => k ls H1 locs1 k9 n9 hl ⟨a, b, c⟩ h1 h2)
theorem hn_putF (hC : hn_C E cc nL own ret d Po ce se Y X) (hmn : X.2.2.2.2.2.2.2.2.1.name = "<init>") {C : String} {T : u_T} {N ci idx a : Nat} {v : Value} {fs : List Value} (j f : Nat) (ty0 : Nat → FieldType) (hd : decode cc pc = .ok (.putfield idx, 3)) (hlk : Cond.fieldLink own idx C (T f).2.1 (T f).2.2.1 ∈ lw_all) (hin : ∀ w ∈ u_ws C T N, w ∈ lw_all) (hty : ∀ k, k < N → parseFieldDescriptor (T k).2.2.1 = some (ty0 k)) (hnm : ∀ a, a < N → ∀ b, b < N → a ≠ b → (T a).2.1 ≠ (T b).2.1) (hc : hc_cl[ci]? = some (C, T, N)) (hT : (T f).1 = C) (hT2 : (T f).1 = own) (he : ws9[j]? = some (a, .inr (ci, fs))) (hf : f < N) (hfin : (T f).2.2.2 = true) (hn : narrow (ty0 f) v = v) (hfit : fits (ty0 f) v = true) (hl9 : f < fs.length)
    (k : hn_At E nL X (pc + 3) lv st (ws9.set j (a, .inr (ci, fs.set f v))) c9 s9) : hn_At E nL X pc lv (v :: .ref a :: st) ws9 c9 s9 := by
  intro ls H locs k9 n9 hl hR h1 h2
  exact va_putF (Ts := lw_all) (T := T) (C := C) hC.1 hC.2.1 hC.2.2.2.2.1 hin ty0 hty hnm hC.2.2.2.1 hC.2.2.2.2.2.2.2.1 hR.1 hR.2.1 hR.2.2 j he hc f hf (hC.2.2.2.2.1 _ hlk) (fun x hx => by rw [hT] at hx; exact hx) hfin hmn hT2 (hty f hf) hn hfit hl9 hd (fun H1 locs1 a b c => k ls H1 locs1 k9 n9 hl ⟨a, b, c⟩ h1 h2)
theorem hn_obj (hC : hn_C E cc nL own ret d Po ce se Y X) {idx a : Nat} (hd : decode cc pc = .ok (.invokespecial idx, 3)) (hlk : Cond.methodLink own idx Lib.objectInit ∈ lw_all) (hins : Cond.instanceMethod Lib.objectInit ∈ lw_all) (hcode : Cond.code Lib.objectInit ⟨#[0xb1]⟩ 1 none ∈ lw_all) (hd1 : 1 ≤ d) (hw : (st.map fun v => v.category).sum ≤ 30)
    (k : hn_At E nL X (pc + 3) lv st ws9 c9 s9) : hn_At E nL X pc lv (.ref a :: st) ws9 c9 s9 := by
  intro ls H locs k9 n9 hl hR h1 h2
  have hfr := hC.2.2.2.2.2.2.2.2.2.2.2.1
  have hlo := hC.2.2.2.2.2.2.2.2.2.2.2.2.1
  exact W.objInit hC.1 hC.2.1 hC.2.2.2.1 (hC.2.2.2.2.1 _ hlk) (hC.2.2.2.2.1 _ hins) (hC.2.2.2.2.1 _ hcode) rfl (by rw [hC.2.2.1]; exact hl.1) rfl hd (by omega) (by simp [JFrame.monitorRoom]; omega) (k ls H locs k9 n9 hl hR h1 h2)
theorem hn_ldcs {v : Int32} (i : Nat) (hC : hn_C E cc nL own ret d Po ce se Y X) {idx : Nat} {tx : String} (hd : decode cc pc = .ok (.ldc idx, 2)) (hq : (own, idx, i, tx) ∈ hs_R) (k : hn_At E nL X (pc + 2) lv (.ref (E.2.2.2.1 i) :: st) ws9 c9 s9) : hn_At E nL X pc lv st ws9 c9 s9 := by
  intro ls H locs k9 n9 hl hR h1 h2
  exact va_ldcS hC.1 hC.2.1 hC.2.2.2.1 (hC.2.2.2.2.2.2.2.2.1.1.2 _ hq) hd (k ls H locs k9 n9 hl hR h1 h2)
theorem hn_ldcsw {v : Int32} (i : Nat) (hC : hn_C E cc nL own ret d Po ce se Y X) {idx : Nat} {tx : String} (hd : decode cc pc = .ok (.ldc_w idx, 3)) (hq : (own, idx, i, tx) ∈ hs_R) (k : hn_At E nL X (pc + 3) lv (.ref (E.2.2.2.1 i) :: st) ws9 c9 s9) : hn_At E nL X pc lv st ws9 c9 s9 := by
  intro ls H locs k9 n9 hl hR h1 h2
  intro T hT X9
  obtain ⟨t, a1, b1⟩ := k ls H locs k9 n9 hl hR h1 h2 T hT X9
  have hZ := hC.2.2.2.2.2.2.2.2.1.1.2 _ hq
  exact ⟨t, hc_ldcw X9 hC.1 hC.2.2.2.1 (text := tx) hZ.1 hZ.2 (g := F0 X.2.2.2.2.2.1 pc ls st) rfl (by rw [hC.2.1]; exact hd) t a1, b1⟩
theorem hn_vret {F : (Nat → Nat) → va_W} (hC : hn_C E cc nL own none d (hn_Po E Y.2.1 none F) c9 s9 Y X) (qs : Nat → Nat) (hF : F qs = ws9) (hd : decode cc pc = .ok (.return_, 1)) : hn_At E nL X pc lv [] ws9 c9 s9 := by
  intro ls H locs k9 n9 hl hR h1 h2
  subst hF
  rw [hC.2.2.2.2.2.2.2.2.2.2.2.2.2.2.1]
  refine hc_ofMQ ⟨h1, h2⟩ ?_
  exact W.vret hC.1 hC.2.1 hC.2.2.2.2.2.1 (fun t ht hW => ⟨⟨qs, rfl, by rw [ht]; exact hR.1, by rw [← hC.2.2.2.2.2.2.2.2.2.2.2.2.2.2.2.2.1]; exact hR.2.1⟩, hR.2.2.F ht⟩) hR.2.2.2.2 hd hC.2.2.2.2.2.2.1
theorem hn_aret {F : (Nat → Nat) → va_W} {a : Nat} {rt : FieldType} (hC : hn_C E cc nL own (some rt) d (hn_Po E Y.2.1 (some (.ref a)) F) c9 s9 Y X) (qs : Nat → Nat) (hF : F qs = ws9) (hrt : (∃ n, rt = .object n) ∨ ∃ t, rt = .array t) (hd : decode cc pc = .ok (.areturn, 1)) : hn_At E nL X pc lv [.ref a] ws9 c9 s9 := by
  intro ls H locs k9 n9 hl hR h1 h2
  subst hF
  rw [hC.2.2.2.2.2.2.2.2.2.2.2.2.2.2.1]
  refine hc_ofMQ ⟨h1, h2⟩ ?_
  exact W.aret hC.1 hC.2.1 hC.2.2.2.2.2.1 hrt (Or.inr ⟨a, rfl⟩) (fun t ht hW => ⟨⟨qs, rfl, by rw [ht]; exact hR.1, by rw [← hC.2.2.2.2.2.2.2.2.2.2.2.2.2.2.2.2.1]; exact hR.2.1⟩, hR.2.2.F ht⟩) hR.2.2.2.2 hd hC.2.2.2.2.2.2.1
theorem hn_pre (hC : hn_C E cc nL own ret d Po ce se Y X) {H : Heap} {locs : List Loc} (hR : hn_R E X ws9 H locs) {U : State} (hU : U.heap = H) (hW : X.2.2.2.2.1.WarmedH U.vm) : hn_Pre E Y.2.1 ws9 U := by
  rw [← hC.2.2.2.2.2.2.2.2.2.2.2.2.2.2.2.2.1]
  refine ⟨by rw [hU]; exact hR.1, hR.2.1, va_K.moved hW.alike hC.2.2.2.2.2.2.2.1, ?_, hn_K.moved hW hC.2.2.2.2.2.2.2.2.2.1, ?_⟩
  · exact hc_J0_st E _ _ U U.heap hC.2.2.2.2.2.2.2.2.1 hW (fun a h1 h2 => by rw [hU]; exact hR.2.2.2.1 a h1 h2)
  · intro q hq
    exact hC.2.2.2.2.2.2.2.2.2.2.1 q (Nat.le_trans hR.2.2.1 (by rw [← hU]; exact hq))
theorem hn_behind (hC : hn_C E cc nL own ret d Po ce se Y X) {H : Heap} {locs : List Loc} (hR : hn_R E X ws9 H locs) {v : Option Value} {F : (Nat → Nat) → va_W} {U t B : State} {o : Outcome} {L : List Loc} (hU : U.heap = H) (hq : hn_Po E Y.2.1 v F o t ∧ va_F Y.2.1 U t) (hB : B.heap = t.heap) (hL : ∀ q ∈ L, Y.2.1 q.base) :
    ∃ qs, o = .returned v ∧ hn_R E X (F qs) B.heap (locs ++ L) := by
  obtain ⟨⟨qs, h1, h2, h3⟩, h5, h6⟩ := hq
  rw [← hC.2.2.2.2.2.2.2.2.2.2.2.2.2.2.2.2.1] at h3 h6 hL
  refine ⟨qs, h1, ⟨by rw [hB]; exact h2, h3, ⟨?_, ?_, ?_⟩⟩⟩
  · rw [hB]; exact Nat.le_trans hR.2.2.1 (by rw [← hU]; exact h5)
  · intro q hq1 hq2
    rw [hB, h6 q (by rw [hU]; exact Nat.lt_of_lt_of_le hq1 hR.2.2.1) hq2, hU]
    exact hR.2.2.2.1 q hq1 hq2
  · intro q hq1
    rcases List.mem_append.mp hq1 with z | z
    · exact hR.2.2.2.2 q z
    · exact hL q z
theorem hn_callI (hC : hn_C E cc nL own ret d Po ce se Y X) {idx : Nat} {y : MethodName} {bytes : ByteArray} {maxL : Nat} {F : (Nat → Nat) → va_W} {c1 s1 : Nat} (b : Nat) (As rest : List Value) (hd : decode cc pc = .ok (.invokespecial idx, 3)) (hlk : Cond.methodLink own idx y ∈ lw_all) (hins : Cond.instanceMethod y ∈ lw_all) (hini : Cond.initialized y.cls ∈ lw_all) (hcode : Cond.code y bytes maxL none ∈ lw_all) (hy : y.cls ≠ "java/lang/invoke/MethodHandle" ∧ y.cls ≠ "java/lang/invoke/VarHandle") (hy1 : y.name = "<init>") (hlen : (parseMethodDescriptor y.desc).map (fun sig => sig.parameters.length) = some As.length) (hw : (rest.map fun v => v.category).sum + (maxL + 11) ≤ 46) (hd1 : 1 ≤ d)
    (hM : hn_M Y.1 y (ws_ y bytes maxL none) (d - 1) E Y.2.1 (.ref b :: As) ws9 c9 s9 none F c1 s1) (hst : st = As.reverse ++ .ref b :: rest)
    (k : ∀ qs : Nat → Nat, hn_At E nL X (pc + 3) lv rest (F qs) c1 s1) : hn_At E nL X pc lv st ws9 c9 s9 := by
  intro ls H locs k9 n9 hl hR h1 h2 T9 hT S9
  subst hst
  have hws := hc_words hC.2.2.2.2.1 hcode
  have hfr := hC.2.2.2.2.2.2.2.2.2.2.2.1
  have hlo := hC.2.2.2.2.2.2.2.2.2.2.2.2.1
  have hM1 := hM
  unfold hn_M at hM1
  have hM1 := hM1 hC.2.2.2.2.2.2.2.2.2.2.2.2.2.2.2.2.2.2.2
  rw [← hC.2.2.2.2.2.2.2.2.2.2.2.2.2.2.2.1] at hM1
  obtain ⟨oo, t, B, L, kk, nn, vm1, g1, mk, S1, e1, e2, hq, hK, hL, hr, -⟩ := hc_runI (Wd := (rest.map fun v => v.category).sum) S9 hC.1 hC.2.2.2.1 hy1 (hC.2.2.2.2.1 _ hlk) (hC.2.2.2.2.1 _ hins) (hC.2.2.2.2.1 _ hcode) hy hM1 (by show d - 1 + 1 ≤ _; omega) (by show _ + _ + 46 * (d - 1) ≤ _; omega) hws List.mem_cons_self (hC.2.2.2.2.1 _ hini) (b := b) (g := F0 X.2.2.2.2.2.1 pc ls (As.reverse ++ .ref b :: rest)) rfl (by rw [hC.2.2.1]; exact hl.1) (argsL := As) (rest := rest) (fun sig hs => by rw [hs] at hlen; exact (Option.some.inj hlen).symm) rfl (by simp [JFrame.monitorRoom]) (by rw [hC.2.1]; exact hd) (by show k9 + c9 ≤ _; omega) (by show n9 + s9 ≤ _; omega) (fun vm1 g1 mk hW => ⟨rfl, hn_pre hC hR (U := (T9.setVm vm1).calling g1 mk _) (by exact hT) hW⟩)
  obtain ⟨qs, a1, a2⟩ := hn_behind hC hR (U := (T9.setVm vm1).calling g1 mk (Value.ref b :: As).toArray) (by exact hT) hq e1 hL
  obtain ⟨t1, b1, b2⟩ := k qs ls B.heap (locs ++ L) (k9 + kk) (n9 + nn) hl a2 (by have := hK.1; omega) (by have := hK.2; omega) B rfl S1
  exact ⟨t1, hr none a1 t1 b1, b2⟩
theorem hn_callIN (hC : hn_C E cc nL own ret d Po ce se Y X) {idx : Nat} {y : MethodName} {bytes : ByteArray} {maxL : Nat} {F : (Nat → Nat) → va_W} {c1 s1 : Nat} (b : Nat) (As rest : List Value) (hd : decode cc pc = .ok (.invokespecial idx, 3)) (hlk : (own, idx, y) ∈ hn_nm) (hins : Cond.instanceMethod y ∈ lw_all) (hini : Cond.initialized y.cls ∈ lw_all) (hcode : Cond.code y bytes maxL none ∈ lw_all) (hy : y.cls ≠ "java/lang/invoke/MethodHandle" ∧ y.cls ≠ "java/lang/invoke/VarHandle") (hy1 : y.name = "<init>") (hlen : (parseMethodDescriptor y.desc).map (fun sig => sig.parameters.length) = some As.length) (hw : (rest.map fun v => v.category).sum + (maxL + 11) ≤ 46) (hd1 : 1 ≤ d)
    (hM : hn_M Y.1 y (ws_ y bytes maxL none) (d - 1) E Y.2.1 (.ref b :: As) ws9 c9 s9 none F c1 s1) (hst : st = As.reverse ++ .ref b :: rest)
    (k : ∀ qs : Nat → Nat, hn_At E nL X (pc + 3) lv rest (F qs) c1 s1) : hn_At E nL X pc lv st ws9 c9 s9 := by
  intro ls H locs k9 n9 hl hR h1 h2 T9 hT S9
  subst hst
  have hws := hc_words hC.2.2.2.2.1 hcode
  have hfr := hC.2.2.2.2.2.2.2.2.2.2.2.1
  have hlo := hC.2.2.2.2.2.2.2.2.2.2.2.2.1
  have hM1 := hM
  unfold hn_M at hM1
  have hM1 := hM1 hC.2.2.2.2.2.2.2.2.2.2.2.2.2.2.2.2.2.2.2
  rw [← hC.2.2.2.2.2.2.2.2.2.2.2.2.2.2.2.1] at hM1
  obtain ⟨oo, t, B, L, kk, nn, vm1, g1, mk, S1, e1, e2, hq, hK, hL, hr, -⟩ := hc_runIN (host := "HomeCompiler") (Wd := (rest.map fun v => v.category).sum) S9 hC.1 hC.2.2.2.1 hy1 (va_Nw.use rfl (hC.2.2.2.2.2.2.2.2.2.1.2 _ hlk)) (hC.2.2.2.2.1 _ hins) (hC.2.2.2.2.1 _ hcode) hy hM1 (by show d - 1 + 1 ≤ _; omega) (by show _ + _ + 46 * (d - 1) ≤ _; omega) hws List.mem_cons_self (hC.2.2.2.2.1 _ hini) (b := b) (g := F0 X.2.2.2.2.2.1 pc ls (As.reverse ++ .ref b :: rest)) rfl (by rw [hC.2.2.1]; exact hl.1) (argsL := As) (rest := rest) (fun sig hs => by rw [hs] at hlen; exact (Option.some.inj hlen).symm) rfl (by simp [JFrame.monitorRoom]) (by rw [hC.2.1]; exact hd) (by show k9 + c9 ≤ _; omega) (by show n9 + s9 ≤ _; omega) (fun vm1 g1 mk hW => ⟨rfl, hn_pre hC hR (U := (T9.setVm vm1).calling g1 mk _) (by exact hT) hW⟩)
  obtain ⟨qs, a1, a2⟩ := hn_behind hC hR (U := (T9.setVm vm1).calling g1 mk (Value.ref b :: As).toArray) (by exact hT) hq e1 hL
  obtain ⟨t1, b1, b2⟩ := k qs ls B.heap (locs ++ L) (k9 + kk) (n9 + nn) hl a2 (by have := hK.1; omega) (by have := hK.2; omega) B rfl S1
  exact ⟨t1, hr none a1 t1 b1, b2⟩
theorem hn_callV (hC : hn_C E cc nL own ret d Po ce se Y X) {C : String} {T : u_T} {N ci idx a : Nat} {fs : List Value} {y : MethodName} {bytes : ByteArray} {maxL : Nat} {r : Option FieldType} {v : Option Value} {F : (Nat → Nat) → va_W} {c1 s1 : Nat} (j : Nat) (As rest : List Value) (hd : decode cc pc = .ok (.invokevirtual idx, 3)) (hlk : Cond.methodLink own idx y ∈ lw_all) (hins : Cond.instanceMethod y ∈ lw_all) (hsel : Cond.selects C y y ∈ lw_all) (hini : Cond.initialized C ∈ lw_all) (hcode : Cond.code y bytes maxL r ∈ lw_all) (hy : C ≠ "java/lang/invoke/MethodHandle" ∧ C ≠ "java/lang/invoke/VarHandle") (hyC : y.cls = C) (hcl : hc_cl[ci]? = some (C, T, N)) (he : ws9[j]? = some (a, .inr (ci, fs))) (hlen : (parseMethodDescriptor y.desc).map (fun sig => sig.parameters.length) = some As.length) (hw : (rest.map fun v => v.category).sum + (maxL + 11) ≤ 46) (hd1 : 1 ≤ d)
    (hM : hn_M Y.1 y (ws_ y bytes maxL r) (d - 1) E Y.2.1 (.ref a :: As) ws9 c9 s9 v F c1 s1) (hst : st = As.reverse ++ .ref a :: rest)
    (k : ∀ qs : Nat → Nat, hn_At E nL X (pc + 3) lv (v.toList ++ rest) (F qs) c1 s1) : hn_At E nL X pc lv st ws9 c9 s9 := by
  intro ls H locs k9 n9 hl hR h1 h2 T9 hT S9
  subst hst
  obtain ⟨r0, q1, cell, z1, z2, z3, z4⟩ := hR.1 j _ he
  have hr0 : r0 = (C, T, N) := Option.some.inj (q1.symm.trans hcl)
  subst hr0
  obtain ⟨-, hfc, -⟩ := hC.2.2.2.2.2.2.2.1.1 _ _ hcl
  have hws := hc_words hC.2.2.2.2.1 hcode
  have hfr := hC.2.2.2.2.2.2.2.2.2.2.2.1
  have hlo := hC.2.2.2.2.2.2.2.2.2.2.2.2.1
  have hM1 := hM
  unfold hn_M at hM1
  have hM1 := hM1 hC.2.2.2.2.2.2.2.2.2.2.2.2.2.2.2.2.2.2.2
  rw [← hC.2.2.2.2.2.2.2.2.2.2.2.2.2.2.2.1] at hM1
  obtain ⟨oo, t, B, L, kk, nn, vm1, g1, mk, S1, e1, e2, hq, hK, hL, hr, -⟩ := hc_runV (Wd := (rest.map fun v => v.category).sum) S9 hC.1 hC.2.2.2.1 (hC.2.2.2.2.1 _ hlk) (hC.2.2.2.2.1 _ hins) (hC.2.2.2.2.1 _ hsel) (hC.2.2.2.2.1 _ hcode) (by rw [hyC]; exact hy) hM1 (by show d - 1 + 1 ≤ _; omega) (by show _ + _ + 46 * (d - 1) ≤ _; omega) hws List.mem_cons_self (by rw [hyC]; exact hC.2.2.2.2.1 _ hini) (b := a) (cellB := cell) (by rw [hT]; exact z1) (by rw [z3]; rfl) (by rw [z2]; exact hfc) (g := F0 X.2.2.2.2.2.1 pc ls (As.reverse ++ .ref a :: rest)) rfl (by rw [hC.2.2.1]; exact hl.1) (argsL := As) (rest := rest) (fun sig hs => by rw [hs] at hlen; exact (Option.some.inj hlen).symm) rfl (by simp [JFrame.monitorRoom]) (by rw [hC.2.1]; exact hd) (by show k9 + c9 ≤ _; omega) (by show n9 + s9 ≤ _; omega) (fun vm1 g1 mk hW => ⟨rfl, hn_pre hC hR (U := (T9.setVm vm1).calling g1 mk _) (by exact hT) hW⟩)
  obtain ⟨qs, a1, a2⟩ := hn_behind hC hR (U := (T9.setVm vm1).calling g1 mk (Value.ref a :: As).toArray) (by exact hT) hq e1 hL
  obtain ⟨t1, b1, b2⟩ := k qs ls B.heap (locs ++ L) (k9 + kk) (n9 + nn) hl a2 (by have := hK.1; omega) (by have := hK.2; omega) B rfl S1
  exact ⟨t1, hr v a1 t1 b1, b2⟩
theorem hn_enter {l : Launch} {y : MethodName} {A : Nat → Prop} {a : List Value} {v : Option Value} {F : (Nat → Nat) → va_W} {c1 s1 : Nat} (lv0 : List (Nat × Value)) (hy : plainName own = true) (hown : y.cls = own) (hlv : lv_args 0 a = lv0) (hle : (lg_sl a).length ≤ nL)
    (body : ∀ X : hc_X, hn_C E cc nL own ret d (hn_Po E A v F) c1 s1 (l, A, fun _ _ => 0, []) X → X.2.2.2.2.2.2.2.2.1.name = y.name → hn_At E nL X 0 lv0 [] ws9 c9 s9) : hn_M l y (ws_ y cc nL ret) d E A a ws9 c9 s9 v F c1 s1 := by
  subst hlv
  intro hnt
  refine hc_ofW (cc := cc) (maxL := nL) (ret := ret) (by rw [hown]; exact hy) rfl ?_
  intro p e s m args below meth c s₁ B hml hem hv
  obtain ⟨rfl, hP, hD, hK, hJ, hAO, hA⟩ := hv
  have hts := atoms_spec (ws := ws_ y cc nL ret) B.pre
  have hts : ∀ w ∈ lw_all, w.before _ s = true := fun w h => hts w (List.mem_cons_of_mem _ h)
  have hfc : s.vm.findClass own = some m.cls := by rw [← hown]; exact findClass_of_methodNamed B.named
  rw [lg_entry_eq]
  exact body (p, l, e, _, s, m, a.toArray, below, meth, c, A, _, fun _ _ => 0, []) ⟨B.exec, B.bytes, hml, hfc, hts, B.returns, B.notSynchronized, hK, hJ, hAO, hA, rfl, rfl, trivial, rfl, rfl, rfl, trivial, trivial, hnt⟩ (name_of_methodNamed B.named B.method).1 _ s.heap [] 0 0 (lv_entry a hle) ⟨hP, hD, va_S.rf⟩ rfl rfl
theorem hn_sub (lv' : List (Nat × Value)) (h : lv'.map (fun q => hc_look lv q.1) = lv'.map (fun q => some q.2)) (k : hn_At E nL X pc lv' st ws9 c9 s9) : hn_At E nL X pc lv st ws9 c9 s9 := by
  intro ls H locs k9 n9 hl
  refine k ls H locs k9 n9 ⟨hl.1, hl.2.1, fun q hq => ?_⟩
  exact hc_has hl (List.map_inj_left.mp h q hq)

theorem hn_iconst (hC : hn_C E cc nL own ret d Po ce se Y X) {n : Int} {v : Int32} (hd : decode cc pc = .ok (.iconst n, 1)) (hv : Int32.ofInt n = v) (k : hn_At E nL X (pc + 1) lv (.int v :: st) ws9 c9 s9) : hn_At E nL X pc lv (st) ws9 c9 s9 :=
  fun ls H locs k9 n9 hl hR h1 h2 => lv_iconst hC.1 hC.2.1 hd hv (k ls H locs k9 n9 hl hR h1 h2)
theorem hn_bipush (hC : hn_C E cc nL own ret d Po ce se Y X) {n : Int} {v : Int32} (hd : decode cc pc = .ok (.bipush n, 2)) (hv : (Int8.ofInt n).toInt32 = v) (k : hn_At E nL X (pc + 2) lv (.int v :: st) ws9 c9 s9) : hn_At E nL X pc lv (st) ws9 c9 s9 :=
  fun ls H locs k9 n9 hl hR h1 h2 => lv_bipush hC.1 hC.2.1 hd hv (k ls H locs k9 n9 hl hR h1 h2)
theorem hn_sipush (hC : hn_C E cc nL own ret d Po ce se Y X) {n : Int} {v : Int32} (hd : decode cc pc = .ok (.sipush n, 3)) (hv : (Int16.ofInt n).toInt32 = v) (k : hn_At E nL X (pc + 3) lv (.int v :: st) ws9 c9 s9) : hn_At E nL X pc lv (st) ws9 c9 s9 :=
  fun ls H locs k9 n9 hl hR h1 h2 => lv_sipush hC.1 hC.2.1 hd hv (k ls H locs k9 n9 hl hR h1 h2)
theorem hn_ldc (hC : hn_C E cc nL own ret d Po ce se Y X) {i : Nat} {v : Int32} (hd : decode cc pc = .ok (.ldc i, 2)) (hv : Cond.constant own i v ∈ lw_all) (k : hn_At E nL X (pc + 2) lv (.int v :: st) ws9 c9 s9) : hn_At E nL X pc lv (st) ws9 c9 s9 :=
  fun ls H locs k9 n9 hl hR h1 h2 => lv_ldc hC.1 hC.2.1 hC.2.2.2.1 (hC.2.2.2.2.1 _ hv) hd (k ls H locs k9 n9 hl hR h1 h2)
theorem hn_ldcw (hC : hn_C E cc nL own ret d Po ce se Y X) {i : Nat} {v : Int32} (hd : decode cc pc = .ok (.ldc_w i, 3)) (hv : Cond.constant own i v ∈ lw_all) (k : hn_At E nL X (pc + 3) lv (.int v :: st) ws9 c9 s9) : hn_At E nL X pc lv (st) ws9 c9 s9 :=
  fun ls H locs k9 n9 hl hR h1 h2 => lv_ldcw hC.1 hC.2.1 hC.2.2.2.1 (hC.2.2.2.2.1 _ hv) hd (k ls H locs k9 n9 hl hR h1 h2)
theorem hn_iload_n (hC : hn_C E cc nL own ret d Po ce se Y X) {i : Fin 4} {x : Int32} (hd : decode cc pc = .ok (.iload_n i, 1)) (hv : hc_look lv (i : Nat) = some (.int x)) (k : hn_At E nL X (pc + 1) lv (.int x :: st) ws9 c9 s9) : hn_At E nL X pc lv (st) ws9 c9 s9 :=
  fun ls H locs k9 n9 hl hR h1 h2 => lv_iload_n hC.1 hC.2.1 hd rfl (hc_has hl hv) (k ls H locs k9 n9 hl hR h1 h2)
theorem hn_iload (hC : hn_C E cc nL own ret d Po ce se Y X) {i : Nat} {x : Int32} (hd : decode cc pc = .ok (.iload i, 2)) (hv : hc_look lv i = some (.int x)) (k : hn_At E nL X (pc + 2) lv (.int x :: st) ws9 c9 s9) : hn_At E nL X pc lv (st) ws9 c9 s9 :=
  fun ls H locs k9 n9 hl hR h1 h2 => lv_iload hC.1 hC.2.1 hd (hc_has hl hv) (k ls H locs k9 n9 hl hR h1 h2)
theorem hn_aload_n (hC : hn_C E cc nL own ret d Po ce se Y X) {i : Fin 4} {x : Nat} (hd : decode cc pc = .ok (.aload_n i, 1)) (hv : hc_look lv (i : Nat) = some (.ref x)) (k : hn_At E nL X (pc + 1) lv (.ref x :: st) ws9 c9 s9) : hn_At E nL X pc lv (st) ws9 c9 s9 :=
  fun ls H locs k9 n9 hl hR h1 h2 => lv_aload_n hC.1 hC.2.1 hd rfl (hc_has hl hv) (k ls H locs k9 n9 hl hR h1 h2)
theorem hn_aload (hC : hn_C E cc nL own ret d Po ce se Y X) {i : Nat} {x : Nat} (hd : decode cc pc = .ok (.aload i, 2)) (hv : hc_look lv i = some (.ref x)) (k : hn_At E nL X (pc + 2) lv (.ref x :: st) ws9 c9 s9) : hn_At E nL X pc lv (st) ws9 c9 s9 :=
  fun ls H locs k9 n9 hl hR h1 h2 => lv_aload hC.1 hC.2.1 hd (hc_has hl hv) (k ls H locs k9 n9 hl hR h1 h2)
theorem hn_istore_n (hC : hn_C E cc nL own ret d Po ce se Y X) {i : Fin 4} {x : Int32} (hd : decode cc pc = .ok (.istore_n i, 1)) (hn : (i : Nat) < nL) (k : hn_At E nL X (pc + 1) (hc_put lv (i : Nat) (.int x)) (st) ws9 c9 s9) : hn_At E nL X pc lv (.int x :: st) ws9 c9 s9 :=
  fun ls H locs k9 n9 hl hR h1 h2 => lv_istore_n hC.1 hC.2.1 hd rfl hl hn rfl (fun ls' hl' => k ls' H locs k9 n9 hl' hR h1 h2)
theorem hn_astore_n (hC : hn_C E cc nL own ret d Po ce se Y X) {i : Fin 4} {x : Nat} (hd : decode cc pc = .ok (.astore_n i, 1)) (hn : (i : Nat) < nL) (k : hn_At E nL X (pc + 1) (hc_put lv (i : Nat) (.ref x)) (st) ws9 c9 s9) : hn_At E nL X pc lv (.ref x :: st) ws9 c9 s9 :=
  fun ls H locs k9 n9 hl hR h1 h2 => lv_astore_n hC.1 hC.2.1 hd rfl hl hn rfl (fun ls' hl' => k ls' H locs k9 n9 hl' hR h1 h2)
theorem hn_astore (hC : hn_C E cc nL own ret d Po ce se Y X) {i : Nat} {x : Nat} (hd : decode cc pc = .ok (.astore i, 2)) (hn : i < nL) (k : hn_At E nL X (pc + 2) (hc_put lv i (.ref x)) (st) ws9 c9 s9) : hn_At E nL X pc lv (.ref x :: st) ws9 c9 s9 :=
  fun ls H locs k9 n9 hl hR h1 h2 => lv_astore hC.1 hC.2.1 hd hl hn rfl (fun ls' hl' => k ls' H locs k9 n9 hl' hR h1 h2)
theorem hn_iinc (hC : hn_C E cc nL own ret d Po ce se Y X) {i : Nat} {n : Int} {x v : Int32} (hd : decode cc pc = .ok (.iinc i n, 3)) (hv : hc_look lv i = some (.int x)) (he : x + Int32.ofInt n = v) (hn : i < nL) (k : hn_At E nL X (pc + 3) (hc_put lv i (.int v)) st ws9 c9 s9) : hn_At E nL X pc lv st ws9 c9 s9 := by
  intro ls H locs k9 n9 hl hR h1 h2
  obtain ⟨j, hj⟩ := List.getElem?_of_mem (hc_look_mem hv)
  exact lv_iinc hC.1 hC.2.1 hd hl hj he hn rfl (fun ls' hl' => k ls' H locs k9 n9 hl' hR h1 h2)
theorem hn_isub (hC : hn_C E cc nL own ret d Po ce se Y X) {x y : Int32} (hd : decode cc pc = .ok (.isub, 1))  (k : hn_At E nL X (pc + 1) lv (.int (x - y) :: st) ws9 c9 s9) : hn_At E nL X pc lv (.int y :: .int x :: st) ws9 c9 s9 :=
  fun ls H locs k9 n9 hl hR h1 h2 => lv_isub hC.1 hC.2.1 hd (k ls H locs k9 n9 hl hR h1 h2)
theorem hn_ishl (hC : hn_C E cc nL own ret d Po ce se Y X) {x y : Int32} (hd : decode cc pc = .ok (.ishl, 1))  (k : hn_At E nL X (pc + 1) lv (.int (jshl x y) :: st) ws9 c9 s9) : hn_At E nL X pc lv (.int y :: .int x :: st) ws9 c9 s9 :=
  fun ls H locs k9 n9 hl hR h1 h2 => lv_ishl hC.1 hC.2.1 hd (k ls H locs k9 n9 hl hR h1 h2)
theorem hn_dup (hC : hn_C E cc nL own ret d Po ce se Y X) {u : Value} (hd : decode cc pc = .ok (.dup, 1)) (hu : u.category = 1) (k : hn_At E nL X (pc + 1) lv (u :: u :: st) ws9 c9 s9) : hn_At E nL X pc lv (u :: st) ws9 c9 s9 :=
  fun ls H locs k9 n9 hl hR h1 h2 => lv_dup hC.1 hC.2.1 hd hu (k ls H locs k9 n9 hl hR h1 h2)
theorem hn_icmp_lt (hC : hn_C E cc nL own ret d Po ce se Y X) {x y : Int32} {off : Int} (tgt : Nat) (hd : decode cc pc = .ok (.if_icmp .lt off, 3)) (ht : (pc : Int) + off = (tgt : Int)) (kt : x < y → hn_At E nL X tgt lv st ws9 c9 s9) (kf : ¬ x < y → hn_At E nL X (pc + 3) lv st ws9 c9 s9) : hn_At E nL X pc lv (.int y :: .int x :: st) ws9 c9 s9 :=
  fun ls H locs k9 n9 hl hR h1 h2 => lv_icmp_lt hC.1 hC.2.1 hd ht (fun z => kt z ls H locs k9 n9 hl hR h1 h2) (fun z => kf z ls H locs k9 n9 hl hR h1 h2)
theorem hn_icmp_ge (hC : hn_C E cc nL own ret d Po ce se Y X) {x y : Int32} {off : Int} (tgt : Nat) (hd : decode cc pc = .ok (.if_icmp .ge off, 3)) (ht : (pc : Int) + off = (tgt : Int)) (kt : y ≤ x → hn_At E nL X tgt lv st ws9 c9 s9) (kf : ¬ y ≤ x → hn_At E nL X (pc + 3) lv st ws9 c9 s9) : hn_At E nL X pc lv (.int y :: .int x :: st) ws9 c9 s9 :=
  fun ls H locs k9 n9 hl hR h1 h2 => lv_icmp_ge hC.1 hC.2.1 hd ht (fun z => kt z ls H locs k9 n9 hl hR h1 h2) (fun z => kf z ls H locs k9 n9 hl hR h1 h2)
theorem hn_goto (hC : hn_C E cc nL own ret d Po ce se Y X) {off : Int} (tgt : Nat) (hd : decode cc pc = .ok (.goto off, 3)) (ht : (pc : Int) + off = (tgt : Int)) (k : hn_At E nL X tgt lv st ws9 c9 s9) : hn_At E nL X pc lv st ws9 c9 s9 :=
  fun ls H locs k9 n9 hl hR h1 h2 => lv_goto hC.1 hC.2.1 hd ht (k ls H locs k9 n9 hl hR h1 h2)
end HN
