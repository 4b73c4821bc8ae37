/-! ===== calls, ends, entries ===== -/
section HCK
variable {p : Program} {l : Launch} {e : Env} {R : Room} {s : State} {m : MethodId} {args : Array Value} {below : List Frame} {meth : Method} {c : Code} {T : State} {locs : List Loc} {cells slots : Nat}
/-- behind a call: the callee has returned, or has thrown -/
def hc_Behind (p : Program) (l : Launch) (e : Env) (R : Room) (s : State) (m : MethodId) (args : Array Value) (below : List Frame) (meth : Method) (c : Code) (T : State) (locs : List Loc) (cells slots : Nat) (Qc : Array Value → State → Outcome → State → Prop) (a : Array Value) (free : Addr → Prop) (K : Nat → Nat → Prop) (g : JFrame) (rest : List Value) : Prop :=
  ∃ (o : Outcome) (t B : State) (L : List Loc) (k n : Nat) (vm₁ : Vm) (g1 : JFrame) (mk : MethodId), Stand p l e R s m args below meth c B (locs ++ L) (cells + k) (slots + n) ∧ B.heap = t.heap ∧ B.vm = t.vm ∧ Qc a ((T.setVm vm₁).calling g1 mk a) o t ∧ K k n ∧ (∀ q ∈ L, free q.base) ∧
    (∀ v, o = .returned v → ∀ target, Steps p.tables e below (B.setTop { g with pc := g.pc + 3, stack := v.toList ++ rest }) target → Steps p.tables e below (T.setTop g) target) ∧
    (∀ x, o = .threw x → ∀ target, Steps p.tables e below ((B.setTop { g with stack := rest }).pushFrame (.throwing x)) target → Steps p.tables e below (T.setTop g) target)
theorem hc_runV (X : Stand p l e R s m args below meth c T locs cells slots) (hexec : p.tables.exec = Jvm.exec) {own C : String} {index : Nat} {y : MethodName} {bytes : ByteArray} {maxL : Nat} {ret : Option FieldType}
    (hown : s.vm.findClass own = some m.cls) (hlink : (Cond.methodLink own index y).before args s = true) (hinst : (Cond.instanceMethod y).before args s = true) (hsel : (Cond.selects C y y).before args s = true)
    (hcode : (Cond.code y bytes maxL ret).before args s = true) (hy : y.cls ≠ "java/lang/invoke/MethodHandle" ∧ y.cls ≠ "java/lang/invoke/VarHandle")
    {ws : List Cond} {rm : Room} {Pc : Array Value → State → Prop} {Qc : Array Value → State → Outcome → State → Prop} {free : Addr → Prop} {K : Nat → Nat → Prop} {Wd : Nat}
    (hM : hc_Mt l y ws rm Pc Qc free K) (hframes : rm.frames + 1 ≤ R.frames) (hlocals : Wd + (maxL + 11) + rm.locals ≤ R.locals)
    (hws : ∀ w ∈ ws, ∀ (a' : Array Value) (U : State), s.WarmedH U.vm → w.before a' U = true) (hcw : Cond.code y bytes maxL ret ∈ ws) (hinit : (Cond.initialized y.cls).before args s = true)
    {b : Addr} {cellB : Cell} (hcell : T.heap[b]? = some cellB) (hobj : cellB.vm.isStatics = false) (hcls : s.vm.findClass C = some cellB.cls)
    {g : JFrame} (hg : g.method = m) (hsize : g.locals.size = c.maxLocals) {argsL rest : List Value} (hlen : ∀ sig, parseMethodDescriptor y.desc = some sig → argsL.length = sig.parameters.length)
    (hstack : g.stack = argsL.reverse ++ .ref b :: rest) (hW : 2 * g.monitorRoom + (rest.map fun v => v.category).sum ≤ Wd) (hdg : decode c.code g.pc = .ok (.invokevirtual index, 3))
    (hc : cells + rm.cells ≤ R.cells) (hs : slots + rm.slots ≤ R.slots) (hP : ∀ vm₁ g1 mk, s.WarmedH vm₁ → Pc (Value.ref b :: argsL).toArray ((T.setVm vm₁).calling g1 mk (Value.ref b :: argsL).toArray)) :
    hc_Behind p l e R s m args below meth c T locs cells slots Qc (Value.ref b :: argsL).toArray free K g rest := by
  obtain ⟨mk, methM, hnamed, hmethM, hstM, habM⟩ := Cond.instanceMethod_spec hinst
  obtain ⟨methM', cM, hmethM', -, -, -, -, -, -, hsigM⟩ := Cond.code_spec hnamed hcode
  cases hmethM.symm.trans hmethM'
  obtain ⟨c2, r2, m2, q1, q2, q3, q4, kP, hkP, hkPi⟩ := Cond.selects_spec hsel
  cases hcls.symm.trans q1
  cases (State.methodFound?_of_named hnamed hy).symm.trans q2
  cases hnamed.symm.trans q3
  have hselP : selectMethod e.platform s.vm cellB.cls mk = .method mk := by rw [Launch.admits_selectMethod X.admits]; exact q4
  obtain ⟨vm₁, X₁, hstep₁⟩ := X.invokevirtual hexec hown hlink hnamed hmethM hstM hkP hkPi hy (a := b) (cell := cellB) hcell
    (fun z h => by rw [h] at hobj; cases hobj) hselP hmethM habM hkP hkPi (g := g) hg (argsL := argsL) (rest := rest) (hlen _ hsigM) hstack hdg
  obtain ⟨o, t, B, L, k, n, X', e1, e2, hq, hK, hL, hst, hr, hx⟩ := hc_back hM hframes hlocals hws hcw hinit X₁ (g := { g with stack := rest }) (ig := .invokevirtual index) (mk := mk) (a := (Value.ref b :: argsL).toArray) hg hsize hdg hW (X₁.named hnamed) hc hs (hP vm₁ _ _ X₁.warmed)
  refine ⟨o, t, B, L, k, n, vm₁, _, mk, X', e1, e2, hq, hK, hL, fun v hv target h => ?_, fun x hv target h => ?_⟩
  · exact hstep₁ _ fun acts => by rw [doInvoke_state]; exact hst.trans (by rw [hr v hv]; exact h)
  · exact hstep₁ _ fun acts => by rw [doInvoke_state]; exact hst.trans (by rw [hx x hv]; exact h)
theorem hc_runS (X : Stand p l e R s m args below meth c T locs cells slots) (hexec : p.tables.exec = Jvm.exec) {own : String} {index : Nat} {y : MethodName} {bytes : ByteArray} {maxL : Nat} {ret : Option FieldType}
    (hown : s.vm.findClass own = some m.cls) (hlink : (Cond.methodLink own index y).before args s = true) (hstat : (Cond.static y).before args s = true)
    (hcode : (Cond.code y bytes maxL ret).before args s = true) (hy : y.cls ≠ "java/lang/invoke/MethodHandle" ∧ y.cls ≠ "java/lang/invoke/VarHandle")
    {ws : List Cond} {rm : Room} {Pc : Array Value → State → Prop} {Qc : Array Value → State → Outcome → State → Prop} {free : Addr → Prop} {K : Nat → Nat → Prop} {Wd : Nat}
    (hM : hc_Mt l y ws rm Pc Qc free K) (hframes : rm.frames + 1 ≤ R.frames) (hlocals : Wd + (maxL + 11) + rm.locals ≤ R.locals)
    (hws : ∀ w ∈ ws, ∀ (a' : Array Value) (U : State), s.WarmedH U.vm → w.before a' U = true) (hcw : Cond.code y bytes maxL ret ∈ ws) (hinit : (Cond.initialized y.cls).before args s = true)
    {g : JFrame} (hg : g.method = m) (hsize : g.locals.size = c.maxLocals) {argsL rest : List Value} (hlen : ∀ sig, parseMethodDescriptor y.desc = some sig → argsL.length = sig.parameters.length)
    (hstack : g.stack = argsL.reverse ++ rest) (hW : 2 * g.monitorRoom + (rest.map fun v => v.category).sum ≤ Wd) (hdg : decode c.code g.pc = .ok (.invokestatic index, 3))
    (hc : cells + rm.cells ≤ R.cells) (hs : slots + rm.slots ≤ R.slots) (hP : ∀ vm₁ g1 mk, s.WarmedH vm₁ → Pc argsL.toArray ((T.setVm vm₁).calling g1 mk argsL.toArray)) :
    hc_Behind p l e R s m args below meth c T locs cells slots Qc argsL.toArray free K g rest := by
  obtain ⟨mk, hnamed⟩ := Cond.code_named hcode
  obtain ⟨methM, cM, hmethM, -, -, -, -, -, -, hsigM⟩ := Cond.code_spec hnamed hcode
  have hstatic : methM.isStatic = true := Cond.static_spec hnamed hmethM hstat
  obtain ⟨kP, hkP, -⟩ := className_of_methodNamed hnamed
  have hinitP : kP.init = .initialized := Cond.initialized_spec (findClass_of_methodNamed hnamed) hkP hinit
  obtain ⟨vm₁, X₁, hstep₁⟩ := X.invokestatic hexec hown hlink hnamed hmethM hstatic hkP hinitP hy (g := g) hg (argsL := argsL) (rest := rest) (hlen _ hsigM) hstack hdg
  obtain ⟨o, t, B, L, k, n, X', e1, e2, hq, hK, hL, hst, hr, hx⟩ := hc_back hM hframes hlocals hws hcw hinit X₁ (g := { g with stack := rest }) (ig := .invokestatic index) (mk := mk) (a := argsL.toArray) hg hsize hdg hW (X₁.named hnamed) hc hs (hP vm₁ _ _ X₁.warmed)
  refine ⟨o, t, B, L, k, n, vm₁, _, mk, X', e1, e2, hq, hK, hL, fun v hv target h => ?_, fun x hv target h => ?_⟩
  · exact hstep₁ _ fun acts => by rw [doInvoke_state]; exact hst.trans (by rw [hr v hv]; exact h)
  · exact hstep₁ _ fun acts => by rw [doInvoke_state]; exact hst.trans (by rw [hx x hv]; exact h)
end HCK
theorem hc_words {s : State} {args : Array Value} (hts : ∀ w ∈ lw_all, w.before args s = true) {y : MethodName} {b : ByteArray} {L : Nat} {r : Option FieldType} (h : Cond.code y b L r ∈ lw_all) : ∀ w ∈ ws_ y b L r, ∀ (a' : Array Value) (U : State), s.WarmedH U.vm → w.before a' U = true := by
  intro w hw a' U hW
  have hg := lw_meth h w hw
  exact word_at hW hg.2 (hts w hg.1)
section HCE
variable {V : hc_V} {E : hc_E} {cc : ByteArray} {nL d pc : Nat} {own : String} {ret : Option FieldType} {oc : hc_Oc} {σe : hc_St} {Y : hc_Y} {X : hc_X} {lv lv' : List (Nat × Value)} {st : List Value} {σ : hc_St} {am : Nat → Nat → Nat} {tm : hc_T}
theorem hr_iret {v : Int32} (hC : hc_C V E cc nL own (some .int) d (.inl (some (.int v))) σ Y X) (hd : decode cc pc = .ok (.ireturn, 1)) : hc_At V E nL X pc lv [.int v] σ am [] := by
  intro ls H locs k9 n9 hl hR h1 h2
  rw [hC.2.2.2.2.2.2.2.2.2.2.2.2.2.2.1]
  refine hc_ofMQ ⟨h1, h2⟩ ?_
  exact W.iret hC.1 hC.2.1 hC.2.2.2.2.2.1 (fun t ht hW => ⟨⟨am, rfl, by rw [ht]; exact hR.1, hR.2.1, hR.2.2.2⟩, hR.2.2.1.F ht⟩) hR.2.2.1.2.2 hd hC.2.2.2.2.2.2.1
theorem hr_zret {v : Int32} {ty : FieldType} (hC : hc_C V E cc nL own (some ty) d (.inl (some (.int v))) σ Y X) (hn : narrow ty (.int v) = .int v) (hd : decode cc pc = .ok (.ireturn, 1)) : hc_At V E nL X pc lv [.int v] σ am [] := by
  intro ls H locs k9 n9 hl hR h1 h2
  rw [hC.2.2.2.2.2.2.2.2.2.2.2.2.2.2.1]
  refine hc_ofMQ ⟨h1, h2⟩ ?_
  exact W.zret hC.1 hC.2.1 hC.2.2.2.2.2.1 hn (fun t ht hW => ⟨⟨am, rfl, by rw [ht]; exact hR.1, hR.2.1, hR.2.2.2⟩, hR.2.2.1.F ht⟩) hR.2.2.1.2.2 hd hC.2.2.2.2.2.2.1
theorem hr_vret (hC : hc_C V E cc nL own none d (.inl none) σ Y X) (hd : decode cc pc = .ok (.return_, 1)) : hc_At V E nL X pc lv [] σ am [] := by
  intro ls H locs k9 n9 hl hR h1 h2
  rw [hC.2.2.2.2.2.2.2.2.2.2.2.2.2.2.1]
  refine hc_ofMQ ⟨h1, h2⟩ ?_
  exact W.vret hC.1 hC.2.1 hC.2.2.2.2.2.1 (fun t ht hW => ⟨⟨am, rfl, by rw [ht]; exact hR.1, hR.2.1, hR.2.2.2⟩, hR.2.2.1.F ht⟩) hR.2.2.1.2.2 hd hC.2.2.2.2.2.2.1
theorem hr_aret {a : Nat} {rt : FieldType} (hC : hc_C V E cc nL own (some rt) d (.inl (some (.ref a))) σ Y X) (hrt : (∃ n, rt = .object n) ∨ ∃ t, rt = .array t) (hd : decode cc pc = .ok (.areturn, 1)) : hc_At V E nL X pc lv [.ref a] σ am [] := by
  intro ls H locs k9 n9 hl hR h1 h2
  rw [hC.2.2.2.2.2.2.2.2.2.2.2.2.2.2.1]
  refine hc_ofMQ ⟨h1, h2⟩ ?_
  exact W.aret hC.1 hC.2.1 hC.2.2.2.2.2.1 hrt (Or.inr ⟨a, rfl⟩) (fun t ht hW => ⟨⟨am, rfl, by rw [ht]; exact hR.1, hR.2.1, hR.2.2.2⟩, hR.2.2.1.F ht⟩) hR.2.2.1.2.2 hd hC.2.2.2.2.2.2.1
/-- the world behind a call -/
theorem hc_behind (hC : hc_C V E cc nL own ret d oc σe Y X) {ls : Array Slot} {H : Heap} {locs : List Loc} {k9 n9 : Nat} (hR : hc_R V E X σ am [] H locs) {T : State} (hT : T.heap = H) {rb' : List Nat} (hrb : ∀ i ∈ rb', i ∈ Y.2.2.2) {ocy : hc_Oc} {σ1 : hc_St} {U t B : State} {o : Outcome} {L : List Loc} (hU : U.heap = H) (hq : hc_Post V E Y.2.1 am rb' ocy σ1 o t ∧ va_F Y.2.1 U t) (hB : B.heap = t.heap) (hL : ∀ q ∈ L, Y.2.1 q.base) :
    ∃ am1, hc_oc ocy o t ∧ hc_R V E X σ1 am1 [] B.heap (locs ++ L) ∧ ∀ i j, i ∉ rb' → am1 i j = am i j := by
  obtain ⟨⟨am1, h1, h2, h3, h4⟩, h5, h6⟩ := hq
  rw [← hC.2.2.2.2.2.2.2.2.2.2.2.2.2.2.2.2.1] at h3 h6 hL
  refine ⟨am1, h1, ⟨by rw [hB]; exact h2, h3, ⟨?_, ?_, ?_⟩, ?_⟩, h4⟩
  · rw [hB]; exact Nat.le_trans hR.2.2.1.1 (by rw [← hU]; exact h5)
  · intro q hq1 hq2
    rw [hB, h6 q (by rw [hU]; exact Nat.lt_of_lt_of_le hq1 hR.2.2.1.1) hq2, hU]
    exact hR.2.2.1.2.1 q hq1 hq2
  · intro q hq1
    rcases List.mem_append.mp hq1 with z | z
    · exact hR.2.2.1.2.2 q z
    · exact hL q z
  · intro i j hi
    rw [h4 i j (fun z => hi (by rw [hC.2.2.2.2.2.2.2.2.2.2.2.2.2.2.2.2.2.2.1]; exact hrb i z))]
    exact hR.2.2.2 i j hi
/-- what a callee asks -/
theorem hc_pre (hC : hc_C V E cc nL own ret d oc σe Y X) {H : Heap} {locs : List Loc} (hR : hc_R V E X σ am [] H locs) {U : State} (hU : U.heap = H) (hW : X.2.2.2.2.1.WarmedH U.vm) : hc_Pre V E Y.2.1 am σ U := by
  refine ⟨by rw [hU]; exact hR.1, by rw [← hC.2.2.2.2.2.2.2.2.2.2.2.2.2.2.2.2.1]; exact hR.2.1, va_K.moved hW.alike hC.2.2.2.2.2.2.2.1, ?_, ?_⟩
  · rw [← hC.2.2.2.2.2.2.2.2.2.2.2.2.2.2.2.2.1]
    exact hC.2.2.2.2.2.2.2.2.2.1 E _ _ U U.heap hC.2.2.2.2.2.2.2.2.1 hW (fun a h1 h2 => by rw [hU]; exact hR.2.2.1.2.1 a h1 h2)
  · intro q hq
    rw [← hC.2.2.2.2.2.2.2.2.2.2.2.2.2.2.2.2.1]
    exact hC.2.2.2.2.2.2.2.2.2.2.1 q (Nat.le_trans hR.2.2.1.1 (by rw [← hU]; exact hq))
/-- an exception leaves the method -/
theorem hc_thrown {kx : Nat} (hC : hc_C V E cc nL own ret d (.inr kx) σ Y X) (hem : X.2.2.2.2.2.2.2.2.2.1.exceptionTable.isEmpty = true) {ls : Array Slot} {B S0 : State} {locs : List Loc} {k9 n9 x pc1 : Nat} {st1 : List Value} (hR : hc_R V E X σ am [] B.heap locs) (h1 : σ.2.2.2.1 + k9 = X.2.2.2.1.cells) (h2 : σ.2.2.2.2 + n9 = X.2.2.2.1.slots) (S1 : Stand X.1 X.2.1 X.2.2.1 X.2.2.2.1 X.2.2.2.2.1 X.2.2.2.2.2.1 X.2.2.2.2.2.2.1 X.2.2.2.2.2.2.2.1 X.2.2.2.2.2.2.2.2.1 X.2.2.2.2.2.2.2.2.2.1 B locs k9 n9) {g : JFrame} (hg : g = F0 X.2.2.2.2.2.1 pc1 ls st1) (hst : ∀ target, Steps X.1.tables X.2.2.1 X.2.2.2.2.2.2.2.1 ((B.setTop g).pushFrame (.throwing x)) target → Steps X.1.tables X.2.2.1 X.2.2.2.2.2.2.2.1 S0 target) (hx : hc_xc kx x B) : ∃ t, Steps X.1.tables X.2.2.1 X.2.2.2.2.2.2.2.1 S0 t ∧ X.2.2.2.2.2.2.2.2.2.2.2.1 t := by
  subst hg
  have hn : X.2.2.2.2.2.2.2.2.2.1.exceptionTable.toList = [] := List.eq_nil_of_length_eq_zero (by simpa [Array.isEmpty] using hem)
  obtain ⟨z1, z2, z3, z4, z5⟩ := S1.leaveThrown x (g := F0 X.2.2.2.2.2.1 pc1 ls st1) rfl rfl rfl (by rw [hn]; intro x hx; cases hx) hC.2.2.2.2.2.2.1
  refine ⟨_, hst _ z1, ?_⟩
  rw [hC.2.2.2.2.2.2.2.2.2.2.2.2.2.2.1]
  exact ⟨.threw x, z2, z3, ⟨⟨am, ⟨x, rfl, hx⟩, hR.1, hR.2.1, hR.2.2.2⟩, hR.2.2.1.F rfl⟩, locs, k9, n9, ⟨z4, z5⟩, ⟨h1, h2⟩, hR.2.2.1.2.2⟩
theorem hr_callV (hC : hc_C V E cc nL own ret d oc σe Y X) {C : String} {T : u_T} {N ci idx : Nat} {y : MethodName} {bytes : ByteArray} {maxL : Nat} {r : Option FieldType} {rb' : List Nat} {v : Option Value} {σ1 : hc_St} (o : Nat) (As rest : List Value) (hd : decode cc pc = .ok (.invokevirtual idx, 3)) (hlk : Cond.methodLink own idx y ∈ lw_all) (hins : Cond.instanceMethod y ∈ lw_all) (hsel : Cond.selects C y y ∈ lw_all) (hini : Cond.initialized C ∈ lw_all) (hcode : Cond.code y bytes maxL r ∈ lw_all) (hy : C ≠ "java/lang/invoke/MethodHandle" ∧ C ≠ "java/lang/invoke/VarHandle") (hyC : y.cls = C) (hcl : V.1[ci]? = some (C, T, N)) (ho : o < V.2.1.1) (hci : V.2.1.2.1 o = ci) (hlen : (parseMethodDescriptor y.desc).map (fun sig => sig.parameters.length) = some As.length) (hw : (rest.map fun v => v.category).sum + (maxL + 11) ≤ 46) (hd1 : 1 ≤ d)
    (hM : hc_M Y.1 V y (ws_ y bytes maxL r) (d - 1) E Y.2.1 (.ref (E.2.1 o) :: As) am rb' σ (.inl v) σ1) (hrb : ∀ i ∈ rb', i ∈ Y.2.2.2) (hst : st = As.reverse ++ .ref (E.2.1 o) :: rest)
    (k : ∀ am1, (∀ i j, i ∉ rb' → am1 i j = am i j) → hc_At V E nL X (pc + 3) lv (v.toList ++ rest) σ1 am1 []) : hc_At V E nL X pc lv st σ am [] := by
  intro ls H locs k9 n9 hl hR h1 h2 T9 hT S9
  subst hci; subst hst
  obtain ⟨r0, q1, cell, c1, c2, c3, c4⟩ := hR.1 o _ (hc_ws_o ho)
  have hr0 : r0 = (C, T, N) := Option.some.inj (q1.symm.trans hcl)
  subst hr0
  obtain ⟨-, hfc, -⟩ := hC.2.2.2.2.2.2.2.1.1 _ _ hcl
  have hws := hc_words hC.2.2.2.2.1 hcode
  have hfr := hC.2.2.2.2.2.2.2.2.2.2.2.1
  have hlo := hC.2.2.2.2.2.2.2.2.2.2.2.2.1
  have hM1 := hM
  unfold hc_M at hM1
  have hM1 := hM1 hC.2.2.2.2.2.2.2.2.2.2.2.2.2.2.2.2.2.2.2
  rw [← hC.2.2.2.2.2.2.2.2.2.2.2.2.2.2.2.1] at hM1
  obtain ⟨oo, t, B, L, kk, nn, vm1, g1, mk, S1, e1, e2, hq, hK, hL, hr, -⟩ := hc_runV (Wd := (rest.map fun v => v.category).sum) S9 hC.1 hC.2.2.2.1 (hC.2.2.2.2.1 _ hlk) (hC.2.2.2.2.1 _ hins) (hC.2.2.2.2.1 _ hsel) (hC.2.2.2.2.1 _ hcode) (by rw [hyC]; exact hy) hM1 (by show d - 1 + 1 ≤ _; omega) (by show _ + _ + 46 * (d - 1) ≤ _; omega) hws List.mem_cons_self (by rw [hyC]; exact hC.2.2.2.2.1 _ hini) (b := E.2.1 o) (cellB := cell) (by rw [hT]; exact c1) (by rw [c3]; rfl) (by rw [c2]; exact hfc) (g := F0 X.2.2.2.2.2.1 pc ls (As.reverse ++ .ref (E.2.1 o) :: rest)) rfl (by rw [hC.2.2.1]; exact hl.1) (argsL := As) (rest := rest) (fun sig hs => by rw [hs] at hlen; exact (Option.some.inj hlen).symm) rfl (by simp [JFrame.monitorRoom]) (by rw [hC.2.1]; exact hd) (by show k9 + σ.2.2.2.1 ≤ _; omega) (by show n9 + σ.2.2.2.2 ≤ _; omega) (fun vm1 g1 mk hW => ⟨rfl, hc_pre hC hR (U := (T9.setVm vm1).calling g1 mk _) (by exact hT) hW⟩)
  obtain ⟨am1, a1, a2, a3⟩ := hc_behind (ls := ls) (k9 := k9) (n9 := n9) hC hR hT hrb (U := (T9.setVm vm1).calling g1 mk (Value.ref (E.2.1 o) :: As).toArray) (by exact hT) hq e1 hL
  obtain ⟨t1, b1, b2⟩ := k am1 a3 ls B.heap (locs ++ L) (k9 + kk) (n9 + nn) hl a2 (by have := hK.1; omega) (by have := hK.2; omega) B rfl S1
  exact ⟨t1, hr v a1 t1 b1, b2⟩
theorem hr_callVx {kx : Nat} {σ1 : hc_St} (hC : hc_C V E cc nL own ret d (.inr kx) σ1 Y X) (hem : X.2.2.2.2.2.2.2.2.2.1.exceptionTable.isEmpty = true) {C : String} {T : u_T} {N ci idx : Nat} {y : MethodName} {bytes : ByteArray} {maxL : Nat} {r : Option FieldType} {rb' : List Nat} (o : Nat) (As rest : List Value) (hd : decode cc pc = .ok (.invokevirtual idx, 3)) (hlk : Cond.methodLink own idx y ∈ lw_all) (hins : Cond.instanceMethod y ∈ lw_all) (hsel : Cond.selects C y y ∈ lw_all) (hini : Cond.initialized C ∈ lw_all) (hcode : Cond.code y bytes maxL r ∈ lw_all) (hy : C ≠ "java/lang/invoke/MethodHandle" ∧ C ≠ "java/lang/invoke/VarHandle") (hyC : y.cls = C) (hcl : V.1[ci]? = some (C, T, N)) (ho : o < V.2.1.1) (hci : V.2.1.2.1 o = ci) (hlen : (parseMethodDescriptor y.desc).map (fun sig => sig.parameters.length) = some As.length) (hw : (rest.map fun v => v.category).sum + (maxL + 11) ≤ 46) (hd1 : 1 ≤ d)
    (hM : hc_M Y.1 V y (ws_ y bytes maxL r) (d - 1) E Y.2.1 (.ref (E.2.1 o) :: As) am rb' σ (.inr kx) σ1) (hrb : ∀ i ∈ rb', i ∈ Y.2.2.2) (hst : st = As.reverse ++ .ref (E.2.1 o) :: rest)
    : hc_At V E nL X pc lv st σ am [] := by
  intro ls H locs k9 n9 hl hR h1 h2 T9 hT S9
  subst hci; subst hst
  obtain ⟨r0, q1, cell, c1, c2, c3, c4⟩ := hR.1 o _ (hc_ws_o ho)
  have hr0 : r0 = (C, T, N) := Option.some.inj (q1.symm.trans hcl)
  subst hr0
  obtain ⟨-, hfc, -⟩ := hC.2.2.2.2.2.2.2.1.1 _ _ hcl
  have hws := hc_words hC.2.2.2.2.1 hcode
  have hfr := hC.2.2.2.2.2.2.2.2.2.2.2.1
  have hlo := hC.2.2.2.2.2.2.2.2.2.2.2.2.1
  have hM1 := hM
  unfold hc_M at hM1
  have hM1 := hM1 hC.2.2.2.2.2.2.2.2.2.2.2.2.2.2.2.2.2.2.2
  rw [← hC.2.2.2.2.2.2.2.2.2.2.2.2.2.2.2.1] at hM1
  obtain ⟨oo, t, B, L, kk, nn, vm1, g1, mk, S1, e1, e2, hq, hK, hL, -, hx⟩ := hc_runV (Wd := (rest.map fun v => v.category).sum) S9 hC.1 hC.2.2.2.1 (hC.2.2.2.2.1 _ hlk) (hC.2.2.2.2.1 _ hins) (hC.2.2.2.2.1 _ hsel) (hC.2.2.2.2.1 _ hcode) (by rw [hyC]; exact hy) hM1 (by show d - 1 + 1 ≤ _; omega) (by show _ + _ + 46 * (d - 1) ≤ _; omega) hws List.mem_cons_self (by rw [hyC]; exact hC.2.2.2.2.1 _ hini) (b := E.2.1 o) (cellB := cell) (by rw [hT]; exact c1) (by rw [c3]; rfl) (by rw [c2]; exact hfc) (g := F0 X.2.2.2.2.2.1 pc ls (As.reverse ++ .ref (E.2.1 o) :: rest)) rfl (by rw [hC.2.2.1]; exact hl.1) (argsL := As) (rest := rest) (fun sig hs => by rw [hs] at hlen; exact (Option.some.inj hlen).symm) rfl (by simp [JFrame.monitorRoom]) (by rw [hC.2.1]; exact hd) (by show k9 + σ.2.2.2.1 ≤ _; omega) (by show n9 + σ.2.2.2.2 ≤ _; omega) (fun vm1 g1 mk hW => ⟨rfl, hc_pre hC hR (U := (T9.setVm vm1).calling g1 mk _) (by exact hT) hW⟩)
  obtain ⟨am1, a1, a2, a3⟩ := hc_behind (ls := ls) (k9 := k9) (n9 := n9) hC hR hT hrb (U := (T9.setVm vm1).calling g1 mk (Value.ref (E.2.1 o) :: As).toArray) (by exact hT) hq e1 hL
  obtain ⟨x, hox, hxc⟩ := a1
  exact hc_thrown hC hem a2 (by have := hK.1; omega) (by have := hK.2; omega) S1 rfl (hx x hox) (by
    obtain ⟨cell, z1, z2, z3, z4⟩ := hxc
    exact ⟨cell, by rw [e1]; exact z1, z2, z3, by rw [e2]; exact z4⟩)
theorem hr_callS (hC : hc_C V E cc nL own ret d oc σe Y X) {C : String} {idx : Nat} {y : MethodName} {bytes : ByteArray} {maxL : Nat} {r : Option FieldType} {rb' : List Nat} {v : Option Value} {σ1 : hc_St} (As rest : List Value) (hd : decode cc pc = .ok (.invokestatic idx, 3)) (hlk : Cond.methodLink own idx y ∈ lw_all) (hins : Cond.static y ∈ lw_all) (hini : Cond.initialized C ∈ lw_all) (hcode : Cond.code y bytes maxL r ∈ lw_all) (hy : C ≠ "java/lang/invoke/MethodHandle" ∧ C ≠ "java/lang/invoke/VarHandle") (hyC : y.cls = C) (hlen : (parseMethodDescriptor y.desc).map (fun sig => sig.parameters.length) = some As.length) (hw : (rest.map fun v => v.category).sum + (maxL + 11) ≤ 46) (hd1 : 1 ≤ d)
    (hM : hc_M Y.1 V y (ws_ y bytes maxL r) (d - 1) E Y.2.1 As am rb' σ (.inl v) σ1) (hrb : ∀ i ∈ rb', i ∈ Y.2.2.2) (hst : st = As.reverse ++ rest)
    (k : ∀ am1, (∀ i j, i ∉ rb' → am1 i j = am i j) → hc_At V E nL X (pc + 3) lv (v.toList ++ rest) σ1 am1 []) : hc_At V E nL X pc lv st σ am [] := by
  intro ls H locs k9 n9 hl hR h1 h2 T9 hT S9
  subst hst
  have hws := hc_words hC.2.2.2.2.1 hcode
  have hfr := hC.2.2.2.2.2.2.2.2.2.2.2.1
  have hlo := hC.2.2.2.2.2.2.2.2.2.2.2.2.1
  have hM1 := hM
  unfold hc_M at hM1
  have hM1 := hM1 hC.2.2.2.2.2.2.2.2.2.2.2.2.2.2.2.2.2.2.2
  rw [← hC.2.2.2.2.2.2.2.2.2.2.2.2.2.2.2.1] at hM1
  obtain ⟨oo, t, B, L, kk, nn, vm1, g1, mk, S1, e1, e2, hq, hK, hL, hr, -⟩ := hc_runS (Wd := (rest.map fun v => v.category).sum) S9 hC.1 hC.2.2.2.1 (hC.2.2.2.2.1 _ hlk) (hC.2.2.2.2.1 _ hins) (hC.2.2.2.2.1 _ hcode) (by rw [hyC]; exact hy) hM1 (by show d - 1 + 1 ≤ _; omega) (by show _ + _ + 46 * (d - 1) ≤ _; omega) hws List.mem_cons_self (by rw [hyC]; exact hC.2.2.2.2.1 _ hini) (g := F0 X.2.2.2.2.2.1 pc ls (As.reverse ++ rest)) rfl (by rw [hC.2.2.1]; exact hl.1) (argsL := As) (rest := rest) (fun sig hs => by rw [hs] at hlen; exact (Option.some.inj hlen).symm) rfl (by simp [JFrame.monitorRoom]) (by rw [hC.2.1]; exact hd) (by show k9 + σ.2.2.2.1 ≤ _; omega) (by show n9 + σ.2.2.2.2 ≤ _; omega) (fun vm1 g1 mk hW => ⟨rfl, hc_pre hC hR (U := (T9.setVm vm1).calling g1 mk _) (by exact hT) hW⟩)
  obtain ⟨am1, a1, a2, a3⟩ := hc_behind (ls := ls) (k9 := k9) (n9 := n9) hC hR hT hrb (U := (T9.setVm vm1).calling g1 mk As.toArray) (by exact hT) hq e1 hL
  obtain ⟨t1, b1, b2⟩ := k am1 a3 ls B.heap (locs ++ L) (k9 + kk) (n9 + nn) hl a2 (by have := hK.1; omega) (by have := hK.2; omega) B rfl S1
  exact ⟨t1, hr v a1 t1 b1, b2⟩
theorem hr_callSx {kx : Nat} {σ1 : hc_St} (hC : hc_C V E cc nL own ret d (.inr kx) σ1 Y X) (hem : X.2.2.2.2.2.2.2.2.2.1.exceptionTable.isEmpty = true) {C : String} {idx : Nat} {y : MethodName} {bytes : ByteArray} {maxL : Nat} {r : Option FieldType} {rb' : List Nat} (As rest : List Value) (hd : decode cc pc = .ok (.invokestatic idx, 3)) (hlk : Cond.methodLink own idx y ∈ lw_all) (hins : Cond.static y ∈ lw_all) (hini : Cond.initialized C ∈ lw_all) (hcode : Cond.code y bytes maxL r ∈ lw_all) (hy : C ≠ "java/lang/invoke/MethodHandle" ∧ C ≠ "java/lang/invoke/VarHandle") (hyC : y.cls = C) (hlen : (parseMethodDescriptor y.desc).map (fun sig => sig.parameters.length) = some As.length) (hw : (rest.map fun v => v.category).sum + (maxL + 11) ≤ 46) (hd1 : 1 ≤ d)
    (hM : hc_M Y.1 V y (ws_ y bytes maxL r) (d - 1) E Y.2.1 As am rb' σ (.inr kx) σ1) (hrb : ∀ i ∈ rb', i ∈ Y.2.2.2) (hst : st = As.reverse ++ rest)
    : hc_At V E nL X pc lv st σ am [] := by
  intro ls H locs k9 n9 hl hR h1 h2 T9 hT S9
  subst hst
  have hws := hc_words hC.2.2.2.2.1 hcode
  have hfr := hC.2.2.2.2.2.2.2.2.2.2.2.1
  have hlo := hC.2.2.2.2.2.2.2.2.2.2.2.2.1
  have hM1 := hM
  unfold hc_M at hM1
  have hM1 := hM1 hC.2.2.2.2.2.2.2.2.2.2.2.2.2.2.2.2.2.2.2
  rw [← hC.2.2.2.2.2.2.2.2.2.2.2.2.2.2.2.1] at hM1
  obtain ⟨oo, t, B, L, kk, nn, vm1, g1, mk, S1, e1, e2, hq, hK, hL, -, hx⟩ := hc_runS (Wd := (rest.map fun v => v.category).sum) S9 hC.1 hC.2.2.2.1 (hC.2.2.2.2.1 _ hlk) (hC.2.2.2.2.1 _ hins) (hC.2.2.2.2.1 _ hcode) (by rw [hyC]; exact hy) hM1 (by show d - 1 + 1 ≤ _; omega) (by show _ + _ + 46 * (d - 1) ≤ _; omega) hws List.mem_cons_self (by rw [hyC]; exact hC.2.2.2.2.1 _ hini) (g := F0 X.2.2.2.2.2.1 pc ls (As.reverse ++ rest)) rfl (by rw [hC.2.2.1]; exact hl.1) (argsL := As) (rest := rest) (fun sig hs => by rw [hs] at hlen; exact (Option.some.inj hlen).symm) rfl (by simp [JFrame.monitorRoom]) (by rw [hC.2.1]; exact hd) (by show k9 + σ.2.2.2.1 ≤ _; omega) (by show n9 + σ.2.2.2.2 ≤ _; omega) (fun vm1 g1 mk hW => ⟨rfl, hc_pre hC hR (U := (T9.setVm vm1).calling g1 mk _) (by exact hT) hW⟩)
  obtain ⟨am1, a1, a2, a3⟩ := hc_behind (ls := ls) (k9 := k9) (n9 := n9) hC hR hT hrb (U := (T9.setVm vm1).calling g1 mk As.toArray) (by exact hT) hq e1 hL
  obtain ⟨x, hox, hxc⟩ := a1
  exact hc_thrown hC hem a2 (by have := hK.1; omega) (by have := hK.2; omega) S1 rfl (hx x hox) (by
    obtain ⟨cell, z1, z2, z3, z4⟩ := hxc
    exact ⟨cell, by rw [e1]; exact z1, z2, z3, by rw [e2]; exact z4⟩)
/-- a contract out of a walk of the body -/
theorem hc_enter {l : Launch} {y : MethodName} {A : Nat → Prop} {a : List Value} {rb : List Nat} (lv0 : List (Nat × Value)) (hy : plainName y.cls = true) (hown : y.cls = own) (hV : hc_St1 V) (hnd : V.2.1.2.2.2.2.2.Nodup) (he : ∀ m : MethodId, ∃ ls : Array Slot, entryFrame m a.toArray nL = F0 m 0 ls [] ∧ lv_has ls nL lv0)
    (body : ∀ X : hc_X, hc_C V E cc nL own ret d oc σe (l, A, am, rb) X → X.2.2.2.2.2.2.2.2.2.1.exceptionTable.isEmpty = true → hc_At V E nL X 0 lv0 [] σ am []) : hc_M l V y (ws_ y cc nL ret) d E A a am rb σ oc σe := by
  intro hnt
  refine hc_ofW (cc := cc) (maxL := nL) (ret := ret) hy rfl ?_
  intro p e s m args below meth c s₁ B hml hem hv
  obtain ⟨rfl, hP, hD, hK, hJ, hA⟩ := hv
  have hts := atoms_spec (ws := ws_ y cc nL ret) B.pre
  have hts : ∀ w ∈ lw_all, w.before _ s = true := fun w h => hts w (List.mem_cons_of_mem _ h)
  have hfc : s.vm.findClass own = some m.cls := by rw [← hown]; exact findClass_of_methodNamed B.named
  obtain ⟨ls, e1, e2⟩ := he m
  rw [e1]
  exact body (p, l, e, _, s, m, a.toArray, below, meth, c, A, _, am, rb) ⟨B.exec, B.bytes, hml, hfc, hts, B.returns, B.notSynchronized, hK, hJ, hV, hA, rfl, rfl, hnd, rfl, rfl, rfl, rfl, rfl, hnt⟩ hem ls s.heap [] 0 0 e2 ⟨hP, hD, va_S.rf, fun _ _ _ => rfl⟩ rfl rfl
end HCE
