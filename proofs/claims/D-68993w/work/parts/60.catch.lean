/-! ===== exceptions that are caught in the method ===== -/
theorem hh_go_cold {E : CtlPost} {e : Env} {d : Bool} {acts : List Action} {s : State} {f : JFrame} {a : Addr} {Q : Handler → Pre} {x : ExceptionTableEntry} {t : List ExceptionTableEntry} {c : ClassId} {cell : Cell} {vm' : Vm} (hx : covers x f.pc = true) (h0 : x.catchType ≠ 0)
    (hg : (Jvm.resolveClass f.method.cls x.catchType).Gives e.toSetting s.vm (.ok c) vm') (hcell : s.heap[a]? = some cell) (hobj : ∀ k, cell.vm ≠ .statics k) (hk : ∃ k, vm'.classes[cell.cls]? = some k) (hc : ∃ k, vm'.classes[c]? = some k) (hsz : vm'.classes.size ≤ s.vm.classes.size) :
    wp (findHandler.go f a (x :: t)) Q E e d acts s ↔ if vm'.assignable cell.cls c = true then Q (.found x.handlerPc) d acts (s.setVm vm') else wp (findHandler.go f a t) Q E e d acts (s.setVm vm') := by
  simp only [covers] at hx
  obtain ⟨ha, ht⟩ := hg.op (op := VmOp.resolveClass f.method.cls x.catchType) rfl
  cases hfit : vm'.assignable cell.cls c <;>
    simp [findHandler.go, hx, h0, ha, ht, hsz, hcell, hobj, hk, hc, hfit, VmOp.dirties, VmOp.acts]
/-- in the table the first clause that takes the kind kx at pc leads to hpc; every clause asked is of a kind -/
def hh_F (own : String) (kx pc : Nat) : List (Nat × Nat × Nat × Nat) → Nat → Prop
  | [], _ => False
  | q :: t, hpc => covers ⟨q.1, q.2.1, q.2.2.1, q.2.2.2⟩ pc = true ∧ q.2.2.2 ≠ 0 ∧ ∃ k, Cond.classLink own q.2.2.2 (hc_xn k) ∈ lw_all ∧ ((hc_xn k = hc_xn kx ∧ q.2.2.1 = hpc) ∨ (hc_xn kx ≠ hc_xn k ∧ hh_F own kx pc t hpc))
theorem hh_search {e : Env} {s U : State} {f : JFrame} {a : Addr} {own : String} {args : Array Value} {kx : Nat} {cell : Cell} (hown : s.vm.findClass own = some f.method.cls) (hpl : e.platform.magicAccessors = ({} : Platform).magicAccessors) (hts : ∀ w ∈ lw_all, w.before args s = true) (hca : ∀ k : Nat, va_Nw (.castable (hc_xn k) (hc_xn k)) s) (hnc : hc_nc s)
    (hcell : U.heap[a]? = some cell) (hobj : ∀ k, cell.vm ≠ .statics k) (hcls : s.vm.findClass (hc_xn kx) = some cell.cls) :
    ∀ (t : List (Nat × Nat × Nat × Nat)) (hpc : Nat), hh_F own kx f.pc t hpc → ∀ vm0, s.WarmedH vm0 → ∃ vm', s.WarmedH vm' ∧ ∀ (Q : Handler → Pre) (E : CtlPost) (d : Bool) (acts : List Action), wp (findHandler.go f a (tableOf t)) Q E e d acts (U.setVm vm0) ↔ Q (.found hpc) d acts (U.setVm vm')
  | [], _, h => h.elim
  | q :: t, hpc, h => by
    obtain ⟨h1, h2, k, h3, h4⟩ := h
    intro vm0 hW
    obtain ⟨cc, hfcc, hcl⟩ := Cond.classLink_spec hown (hts _ h3) e.platform hpl
    obtain ⟨hg₁, hwarm₁, hready₁⟩ := State.classEntry (e := e) hW hcl
    have hsz : (vm0.noted f.method.cls q.2.2.2 (.cls cc)).classes.size ≤ vm0.classes.size := by no_record
    generalize vm0.noted f.method.cls q.2.2.2 (.cls cc) = vm₁ at hg₁ hwarm₁ hready₁ hsz
    have hk1 : ∃ z, vm₁.classes[cell.cls]? = some z := Vm.classAt_of_findClass (name := hc_xn kx) (by rw [hwarm₁.alike.findClass]; exact hcls)
    have hk2 : ∃ z, vm₁.classes[cc]? = some z := Vm.classAt_of_findClass (name := hc_xn k) (by rw [hwarm₁.alike.findClass]; exact hfcc)
    rcases h4 with ⟨h4, h5⟩ | ⟨h4, h5⟩
    · refine ⟨vm₁, hwarm₁, fun Q E d acts => ?_⟩
      obtain ⟨c3, c4, hc3, hc4, hasg⟩ := Cond.castable_spec (hca k)
      have e1 : c3 = cell.cls := Option.some.inj (hc3.symm.trans (by rw [h4]; exact hcls))
      have e2 : c4 = cc := Option.some.inj (hc4.symm.trans hfcc)
      subst e1; subst e2
      refine (hh_go_cold (x := ⟨q.1, q.2.1, q.2.2.1, q.2.2.2⟩) (s := U.setVm vm0) (t := tableOf t) h1 h2 hg₁ hcell hobj hk1 hk2 hsz).trans ?_
      rw [hwarm₁.alike.assignable, if_pos hasg]
      rw [← h5]
      rfl
    · obtain ⟨vm', hW', hQ⟩ := hh_search hown hpl hts hca hnc hcell hobj hcls t hpc h5 vm₁ hwarm₁
      refine ⟨vm', hW', fun Q E d acts => ?_⟩
      have hasg := hnc kx k h4 cell.cls cc hcls hfcc
      refine (hh_go_cold (x := ⟨q.1, q.2.1, q.2.2.1, q.2.2.2⟩) (s := U.setVm vm0) (t := tableOf t) h1 h2 hg₁ hcell hobj hk1 hk2 hsz).trans ?_
      rw [hwarm₁.alike.assignable, if_neg (by rw [hasg]; decide)]
      exact hQ Q E d acts
theorem hh_spec {x : MethodName} {bytes : ByteArray} {maxLocals : Nat} {ret : Option FieldType} {hh : List (Nat × Nat × Nat × Nat)} {m : MethodId} {args : Array Value} {s : State} (hn : s.methodNamed? x = some m) (h : (Cond.codeWith x bytes maxLocals ret hh).before args s = true) :
    ∃ meth c, s.vm.method? m = some meth ∧ meth.code = some c ∧ c.code = bytes ∧ c.maxLocals = maxLocals ∧ meth.sig.returnType = ret ∧ meth.locks = false ∧ c.exceptionTable.toList = tableOf hh ∧ parseMethodDescriptor x.desc = some meth.sig := by
  obtain ⟨m', meth, c, h0, h1, h2, h3, h4, h5, h6, h7, h8⟩ := Cond.codeWith_spec h
  cases hn.symm.trans h0
  exact ⟨meth, c, h1, h2, h3, h4, h6, h7, by rw [← h5, table_eq], h8⟩
theorem hh_named {x : MethodName} {bytes : ByteArray} {maxLocals : Nat} {ret : Option FieldType} {hh : List (Nat × Nat × Nat × Nat)} {args : Array Value} {s : State} (h : (Cond.codeWith x bytes maxLocals ret hh).before args s = true) : ∃ m, s.methodNamed? x = some m := by
  obtain ⟨m', meth, c, h0, -⟩ := Cond.codeWith_spec h
  exact ⟨m', h0⟩
theorem hh_table {p : Program} {l : Launch} {x : MethodName} {S : Spec} {code : ByteArray} {maxL : Nat} {ret : Option FieldType} {hh : List (Nat × Nat × Nat × Nat)} {e : Env} {s : State} {m : MethodId} {args : Array Value} {below : List Frame} {meth : Method} {c : Code} {s₁ : State} (B : BodyLoose p l x S code maxL ret e s m args below meth c s₁) (h : (Cond.codeWith x code maxL ret hh).before args s = true) : c.exceptionTable.toList = tableOf hh := by
  obtain ⟨meth', c', h1, h2, -, -, -, -, h3, -⟩ := hh_spec B.named h
  have h4 : s.code? m = some c' := by rw [State.code?_eq]; simp [h1, h2]
  have h5 : s₁.code? m = some c := B.here.code
  have h6 : s₁.code? m = s.code? m := by rw [State.code?_eq, State.code?_eq, B.state]; rfl
  have : c = c' := Option.some.inj (h5.symm.trans (h6.trans h4))
  rw [this]; exact h3
/-- into a handler of the method's own, its class cold or warm -/
theorem hh_into {tb : Tables} {e : Env} {s target : State} {g : JFrame} {c : Code} {below : List Frame} {a : Addr} {vm' : Vm} (h : At s g.method c below) {pc : Nat}
    (hfind : ∀ (Q : Handler → Pre) (E : CtlPost) (d : Bool) (acts : List Action), wp (findHandler g a) Q E e d acts ((s.setTop g).pushFrame (.throwing a)) ↔ Q (.found pc) d acts (((s.setTop g).pushFrame (.throwing a)).setVm vm'))
    (hrest : Steps tb e below ((s.setVm vm').setTop { g with pc := pc, stack := [.ref a] }) target) :
    Steps tb e below ((s.setTop g).pushFrame (.throwing a)) target := by
  obtain ⟨hgo, hw⟩ := h.throwing a
  refine Steps.head hgo hw ?_
  obtain ⟨g₀, hg⟩ := Option.isSome_iff_exists.mp h.top
  obtain ⟨r, hr⟩ := State.topJava?_eq_some.mp hg
  have hz : (stepThrowing e ((s.setTop g).pushFrame (.throwing a)) a (.java g :: r)).Is ((((s.setTop g).pushFrame (.throwing a)).setVm vm').setFrames (.java { g with pc := pc, stack := [.ref a] } :: r)) [] := by
    simp only [stepThrowing, searchFrame, vmDo]
    generalize hr : Sem.go _ e false [] ((s.setTop g).pushFrame (.throwing a)) = res
    obtain ⟨as, rfl, ha⟩ := Sem.eq_ok_of hr (a := Handler.found pc) (s' := ((s.setTop g).pushFrame (.throwing a)).setVm vm') (acts' := []) (by simp [hfind _ _ _ _])
    exact ⟨rfl, ha⟩
  rw [stepThread_throwing (frames_entered h.top _), hr, List.tail_cons, hz.1]
  have hr' : (s.setVm vm').frames = .java g₀ :: r := hr
  rw [State.setTop_of_frames _ hr'] at hrest
  have e1 : (((s.setTop g).pushFrame (.throwing a)).setVm vm').setFrames (.java { g with pc := pc, stack := [.ref a] } :: r) = (s.setVm vm').setFrames (.java { g with pc := pc, stack := [.ref a] } :: r) := by
    rw [State.pushFrame, State.setTop_of_frames _ hr, State.setFrames_setFrames]
    show ((s.setVm vm').setFrames _).setFrames _ = _
    rw [State.setFrames_setFrames]
  rw [e1]
  exact hrest
theorem hh_caught {p : Program} {l : Launch} {e : Env} {R : Room} {s : State} {m : MethodId} {args : Array Value} {below : List Frame} {meth : Method} {c : Code} {B : State} {locs : List Loc} {cells slots : Nat} {own : String} {E : hc_E} {A : Nat → Prop} {hh : List (Nat × Nat × Nat × Nat)} {kx hpc x : Nat} (J : hc_J0 E A s s.heap) (S1 : Stand p l e R s m args below meth c B locs cells slots) (hown : s.vm.findClass own = some m.cls) (hts : ∀ w ∈ lw_all, w.before args s = true) (hem : c.exceptionTable.toList = tableOf hh) {g : JFrame} (hf : hh_F own kx g.pc hh hpc) (hx : hc_xc kx x B) (hg : g.method = m) :
    ∃ vm', Stand p l e R s m args below meth c (B.setVm vm') locs cells slots ∧ ∀ target, Steps p.tables e below ((B.setVm vm').setTop { g with pc := hpc, stack := [.ref x] }) target → Steps p.tables e below ((B.setTop g).pushFrame (.throwing x)) target := by
  subst hg
  obtain ⟨cell, z1, z2, z3, z4⟩ := hx
  have hpl : e.platform.magicAccessors = ({} : Platform).magicAccessors := by rw [S1.admits.platform]
  obtain ⟨vm', hW', hQ⟩ := hh_search (e := e) (U := (B.setTop g).pushFrame (.throwing x)) (a := x) hown hpl hts J.2.2.2.2.2.2.1 J.2.2.2.2.2.2.2.2 (by rw [Stand.throwing_heap]; exact z1) (VmData.ne_statics_of z3) (by rw [← S1.warmed.alike.findClass]; exact z4) hh hpc hf B.vm S1.warmed
  refine ⟨vm', S1.noted hW', fun target h => hh_into S1.here (vm' := vm') (pc := hpc) (fun Q E d acts => ?_) h⟩
  have hm : ((B.setTop g).pushFrame (.throwing x)).vm.method? g.method = some meth := by rw [Stand.throwing_vm, S1.warmed.alike.method?]; exact S1.method
  rw [W.findHandler_eq hm S1.code, hem]
  have := hQ Q E d acts
  rw [show ((B.setTop g).pushFrame (.throwing x)).setVm B.vm = (B.setTop g).pushFrame (.throwing x) from by rw [← Stand.throwing_vm B g x]; rfl] at this
  exact this
section HCWW
variable {p : Program} {l : Launch} {e : Env} {R : Room} {s : State} {m : MethodId} {args : Array Value} {below : List Frame} {meth : Method} {c : Code} {H : Heap} {locs : List Loc} {cells slots : Nat} {Q : State → Prop}
theorem hc_ofWW {y : MethodName} {ws ws' : List Cond} {rm : Room} {Pc : Array Value → State → Prop} {Qc : Array Value → State → Outcome → State → Prop} {free : Addr → Prop} {K : Nat → Nat → Prop} {cc : ByteArray} {maxL : Nat} {ret : Option FieldType} {hh : List (Nat × Nat × Nat × Nat)}
    (hy : plainName y.cls = true) (hw : ws = Cond.codeWith y cc maxL ret hh :: ws')
    (body : ∀ p e s m args below meth c s₁, BodyLoose p l y (headSpec ws rm) cc maxL ret e s m args below meth c s₁ → c.maxLocals = maxL → c.exceptionTable.toList = tableOf hh → Pc args s →
      W p l e (headSpec ws rm).room s m args below meth c s.heap [] 0 0 (hc_MQ below Qc args s free K) (entryFrame m args maxL)) : hc_Mt l y ws rm Pc Qc free K := by
  refine MetFree.of_bodyS (code := cc) (maxLocals := maxL) (ret := ret) hy ?_ ?_
  · intro args s m h hn
    obtain ⟨meth, c, h1, h2, h3, h4, h5, h6, -, -⟩ := hh_spec hn (atoms_spec (ws := ws) h _ (by rw [hw]; exact List.mem_cons_self))
    exact ⟨meth, c, h1, h2, h3, h4, h5, h6⟩
  · intro p e s m args below meth c s₁ B hml hP _
    have hh0 : s₁.heap = s.heap := by rw [B.state]; rfl
    have hem : c.exceptionTable.toList = tableOf hh := hh_table B (atoms_spec (ws := ws) B.pre _ (by rw [hw]; exact List.mem_cons_self))
    obtain ⟨t, a1, o, b1, b2, b3⟩ := body p e s m args below meth c s₁ B hml hem hP s₁ hh0 (Stand.of_body B)
    exact ⟨t, o, a1, b1, b2, ⟨b3.1, b3.2⟩⟩
/-- the point behind a call, whichever way the callee ended -/
theorem hc_backW {y : MethodName} {ws : List Cond} {rm : Room} {Pc : Array Value → State → Prop} {Qc : Array Value → State → Outcome → State → Prop} {free : Addr → Prop} {K : Nat → Nat → Prop} {bytes : ByteArray} {maxL len Wd : Nat} {ret : Option FieldType} {hh : List (Nat × Nat × Nat × Nat)}
    (hM : hc_Mt l y ws rm Pc Qc free K) (hframes : rm.frames + 1 ≤ R.frames) (hlocals : Wd + (maxL + 11) + rm.locals ≤ R.locals)
    (hws : ∀ w ∈ ws, ∀ (a' : Array Value) (U : State), s.WarmedH U.vm → w.before a' U = true) (hcode : Cond.codeWith y bytes maxL ret hh ∈ ws) (hinit : (Cond.initialized y.cls).before args s = true)
    {U : State} (X : Stand p l e R s m args below meth c U locs cells slots) {g : JFrame} {ig : Instr} {mk : MethodId} {a : Array Value} (hg : g.method = m) (hsize : g.locals.size = c.maxLocals) (hdg : decode c.code g.pc = .ok (ig, len))
    (hW : 2 * g.monitorRoom + (g.stack.map fun v => v.category).sum ≤ Wd) (hn : U.methodNamed? y = some mk) (hc : cells + rm.cells ≤ R.cells) (hs : slots + rm.slots ≤ R.slots) (hP : Pc a (U.calling g mk a)) :
    ∃ (o : Outcome) (t : State) (B : State) (L : List Loc) (k n : Nat), Stand p l e R s m args below meth c B (locs ++ L) (cells + k) (slots + n) ∧ B.heap = t.heap ∧ B.vm = t.vm ∧ Qc a (U.calling g mk a) o t ∧ K k n ∧ (∀ q ∈ L, free q.base) ∧
      Steps p.tables e below (doInvoke e (U.setTop g) [] mk a).1 t ∧
      (∀ v, o = .returned v → t = B.setTop { g with pc := g.pc + len, stack := v.toList ++ g.stack }) ∧ (∀ x, o = .threw x → t = (B.setTop g).pushFrame (.throwing x)) := by
  have h2 : (Cond.codeWith y bytes maxL ret hh).before a U = true := hws _ hcode _ _ X.warmed
  have h3 : (Cond.initialized y.cls).before a U = true := word_at X.warmed (Or.inl (by first | rfl | simp [Cond.onTables, Cond.keeps, Cond.steady])) hinit
  have h1 : (headSpec ws rm).pre.before a U = true := atoms_intro fun w hw => hws w hw _ _ X.warmed
  obtain ⟨methY, cY, hmY, hcY, -, hlY, -, -, -, -⟩ := hh_spec hn h2
  obtain ⟨kY, hkY, -⟩ := className_of_methodNamed hn
  have hinitY : kY.init = .initialized := Cond.initialized_spec (findClass_of_methodNamed hn) hkY h3
  have h : At U g.method c below := by rw [hg]; exact X.here
  have happ : (headSpec ws rm).appliesLoose y e.platform (U.calling g mk a) = true :=
    Spec.appliesLoose_calling (g := g) h hdg hn hkY hinitY
      (X.room_calling (g := g) (R' := (headSpec ws rm).room) hsize hmY hcY hframes (by rw [hlY]; show _ + rm.locals ≤ _; omega) hc hs) h1
  obtain ⟨mid, hmid⟩ := h.above
  have hfr : (U.setTop g).frames = (.java g :: mid) ++ below := by rw [State.frames_setTop' g h.top, hmid]; rfl
  obtain ⟨o, s₂, hsteps, -, hend, hq⟩ := Steps.callFree hM p X.admits X.cas X.clock (acts := []) hfr happ hP trivial
  rw [State.frames_setTop' g h.top] at hend
  have hq : Qc a (U.calling g mk a) o s₂ ∧ ∃ L k n, hc_FE (U.calling g mk a) s₂ L k n ∧ K k n ∧ ∀ q ∈ L, free q.base := hq
  obtain ⟨hq', L, k, n, ⟨hW₂, e2, q2, q3, q4, q5, q6⟩, hK, hL⟩ := hq
  have e3 : s₂ = ({ (U.calling g mk a).setFrames s₂.frames with heap := s₂.heap, slotsUsed := s₂.slotsUsed } : State).setVm s₂.vm := by
    have : s₂ = ({ s₂ with vm := (U.calling g mk a).vm } : State).setVm s₂.vm := rfl
    rw [e2] at this
    exact this
  have hW' : U.WarmedH s₂.vm := hW₂
  obtain ⟨g₀, hg0⟩ := Option.isSome_iff_exists.mp h.top
  obtain ⟨r, hr⟩ := State.topJava?_eq_some.mp hg0
  have hr' : (({ U with heap := s₂.heap, slotsUsed := s₂.slotsUsed } : State).setVm s₂.vm).frames = .java g₀ :: r := hr
  have hsame : U.sameButNew ({ U with heap := s₂.heap, slotsUsed := s₂.slotsUsed } : State) L k n := by
    refine ⟨?_, q2, q3, q4, q5, q6⟩
    obtain ⟨t, ht, -⟩ := State.frames_cons hr
    show ({ U with heap := s₂.heap, slotsUsed := s₂.slotsUsed } : State) = { U.setFrames U.frames with heap := s₂.heap, slotsUsed := s₂.slotsUsed }
    rw [State.setFrames_self ht]
  subst hg
  refine ⟨o, s₂, ({ U with heap := s₂.heap, slotsUsed := s₂.slotsUsed } : State).setVm s₂.vm, L, k, n,
    ⟨X.admits, X.cas, X.clock, X.frames, X.room, X.hears, X.method, X.code, (X.here.setHeapUsed s₂.heap s₂.slotsUsed).setVm hW'.alike, X.tail, State.WarmedH.trans X.warmed hW', X.limits, X.bytes, X.same.trans (hsame.setVm s.vm)⟩,
    rfl, rfl, hq', hK, hL, hsteps, ?_, ?_⟩
  · intro v hv
    subst hv
    obtain ⟨c₂, i₂, len₂, hc₂, hd₂, hf₂⟩ := hend
    have hcc : c₂ = c := by
      have h1 : s₂.code? g.method = U.code? g.method := by
        rw [State.code?_eq, State.code?_eq, hW'.alike.method?]
      exact Option.some.inj (hc₂.symm.trans (h1.trans h.code))
    subst hcc
    have hlen : len₂ = len := by rw [hdg] at hd₂; cases hd₂; rfl
    subst hlen
    refine e3.trans ?_
    rw [hf₂, State.calling_eq h.top, State.setFrames_setFrames, State.setTop_of_frames _ hr', hr]
    rfl
  · intro x hx
    subst hx
    have hf₂ : s₂.frames = .throwing x :: .java g :: U.frames.tail := hend
    refine e3.trans ?_
    rw [hf₂, State.calling_eq h.top, State.setFrames_setFrames, State.pushFrame, State.frames_setTop _ hr', State.setTop_of_frames _ hr', State.setFrames_setFrames, hr]
    rfl
end HCWW
section HCKW
variable {p : Program} {l : Launch} {e : Env} {R : Room} {s : State} {m : MethodId} {args : Array Value} {below : List Frame} {meth : Method} {c : Code} {T : State} {locs : List Loc} {cells slots : Nat}
theorem hc_runVW (X : Stand p l e R s m args below meth c T locs cells slots) (hexec : p.tables.exec = Jvm.exec) {own C : String} {index : Nat} {y : MethodName} {bytes : ByteArray} {maxL : Nat} {ret : Option FieldType} {hh : List (Nat × Nat × Nat × Nat)}
    (hown : s.vm.findClass own = some m.cls) (hlink : (Cond.methodLink own index y).before args s = true) (hinst : (Cond.instanceMethod y).before args s = true) (hsel : (Cond.selects C y y).before args s = true)
    (hcode : (Cond.codeWith y bytes maxL ret hh).before args s = true) (hy : y.cls ≠ "java/lang/invoke/MethodHandle" ∧ y.cls ≠ "java/lang/invoke/VarHandle")
    {ws : List Cond} {rm : Room} {Pc : Array Value → State → Prop} {Qc : Array Value → State → Outcome → State → Prop} {free : Addr → Prop} {K : Nat → Nat → Prop} {Wd : Nat}
    (hM : hc_Mt l y ws rm Pc Qc free K) (hframes : rm.frames + 1 ≤ R.frames) (hlocals : Wd + (maxL + 11) + rm.locals ≤ R.locals)
    (hws : ∀ w ∈ ws, ∀ (a' : Array Value) (U : State), s.WarmedH U.vm → w.before a' U = true) (hcw : Cond.codeWith y bytes maxL ret hh ∈ ws) (hinit : (Cond.initialized y.cls).before args s = true)
    {b : Addr} {cellB : Cell} (hcell : T.heap[b]? = some cellB) (hobj : cellB.vm.isStatics = false) (hcls : s.vm.findClass C = some cellB.cls)
    {g : JFrame} (hg : g.method = m) (hsize : g.locals.size = c.maxLocals) {argsL rest : List Value} (hlen : ∀ sig, parseMethodDescriptor y.desc = some sig → argsL.length = sig.parameters.length)
    (hstack : g.stack = argsL.reverse ++ .ref b :: rest) (hW : 2 * g.monitorRoom + (rest.map fun v => v.category).sum ≤ Wd) (hdg : decode c.code g.pc = .ok (.invokevirtual index, 3))
    (hc : cells + rm.cells ≤ R.cells) (hs : slots + rm.slots ≤ R.slots) (hP : ∀ vm₁ g1 mk, s.WarmedH vm₁ → Pc (Value.ref b :: argsL).toArray ((T.setVm vm₁).calling g1 mk (Value.ref b :: argsL).toArray)) :
    hc_Behind p l e R s m args below meth c T locs cells slots Qc (Value.ref b :: argsL).toArray free K g rest := by
  obtain ⟨mk, methM, hnamed, hmethM, hstM, habM⟩ := Cond.instanceMethod_spec hinst
  obtain ⟨methM', cM, hmethM', -, -, -, -, -, -, hsigM⟩ := hh_spec hnamed hcode
  cases hmethM.symm.trans hmethM'
  obtain ⟨c2, r2, m2, q1, q2, q3, q4, kP, hkP, hkPi⟩ := Cond.selects_spec hsel
  cases hcls.symm.trans q1
  cases (State.methodFound?_of_named hnamed hy).symm.trans q2
  cases hnamed.symm.trans q3
  have hselP : selectMethod e.platform s.vm cellB.cls mk = .method mk := by rw [Launch.admits_selectMethod X.admits]; exact q4
  obtain ⟨vm₁, X₁, hstep₁⟩ := X.invokevirtual hexec hown hlink hnamed hmethM hstM hkP hkPi hy (a := b) (cell := cellB) hcell
    (fun z h => by rw [h] at hobj; cases hobj) hselP hmethM habM hkP hkPi (g := g) hg (argsL := argsL) (rest := rest) (hlen _ hsigM) hstack hdg
  obtain ⟨o, t, B, L, k, n, X', e1, e2, hq, hK, hL, hst, hr, hx⟩ := hc_backW hM hframes hlocals hws hcw hinit X₁ (g := { g with stack := rest }) (ig := .invokevirtual index) (mk := mk) (a := (Value.ref b :: argsL).toArray) hg hsize hdg hW (X₁.named hnamed) hc hs (hP vm₁ _ _ X₁.warmed)
  refine ⟨o, t, B, L, k, n, vm₁, _, mk, X', e1, e2, hq, hK, hL, fun v hv target h => ?_, fun x hv target h => ?_⟩
  · exact hstep₁ _ fun acts => by rw [doInvoke_state]; exact hst.trans (by rw [hr v hv]; exact h)
  · exact hstep₁ _ fun acts => by rw [doInvoke_state]; exact hst.trans (by rw [hx x hv]; exact h)
theorem hc_runSW (X : Stand p l e R s m args below meth c T locs cells slots) (hexec : p.tables.exec = Jvm.exec) {own : String} {index : Nat} {y : MethodName} {bytes : ByteArray} {maxL : Nat} {ret : Option FieldType} {hh : List (Nat × Nat × Nat × Nat)}
    (hown : s.vm.findClass own = some m.cls) (hlink : (Cond.methodLink own index y).before args s = true) (hstat : (Cond.static y).before args s = true)
    (hcode : (Cond.codeWith y bytes maxL ret hh).before args s = true) (hy : y.cls ≠ "java/lang/invoke/MethodHandle" ∧ y.cls ≠ "java/lang/invoke/VarHandle")
    {ws : List Cond} {rm : Room} {Pc : Array Value → State → Prop} {Qc : Array Value → State → Outcome → State → Prop} {free : Addr → Prop} {K : Nat → Nat → Prop} {Wd : Nat}
    (hM : hc_Mt l y ws rm Pc Qc free K) (hframes : rm.frames + 1 ≤ R.frames) (hlocals : Wd + (maxL + 11) + rm.locals ≤ R.locals)
    (hws : ∀ w ∈ ws, ∀ (a' : Array Value) (U : State), s.WarmedH U.vm → w.before a' U = true) (hcw : Cond.codeWith y bytes maxL ret hh ∈ ws) (hinit : (Cond.initialized y.cls).before args s = true)
    {g : JFrame} (hg : g.method = m) (hsize : g.locals.size = c.maxLocals) {argsL rest : List Value} (hlen : ∀ sig, parseMethodDescriptor y.desc = some sig → argsL.length = sig.parameters.length)
    (hstack : g.stack = argsL.reverse ++ rest) (hW : 2 * g.monitorRoom + (rest.map fun v => v.category).sum ≤ Wd) (hdg : decode c.code g.pc = .ok (.invokestatic index, 3))
    (hc : cells + rm.cells ≤ R.cells) (hs : slots + rm.slots ≤ R.slots) (hP : ∀ vm₁ g1 mk, s.WarmedH vm₁ → Pc argsL.toArray ((T.setVm vm₁).calling g1 mk argsL.toArray)) :
    hc_Behind p l e R s m args below meth c T locs cells slots Qc argsL.toArray free K g rest := by
  obtain ⟨mk, hnamed⟩ := hh_named hcode
  obtain ⟨methM, cM, hmethM, -, -, -, -, -, -, hsigM⟩ := hh_spec hnamed hcode
  have hstatic : methM.isStatic = true := Cond.static_spec hnamed hmethM hstat
  obtain ⟨kP, hkP, -⟩ := className_of_methodNamed hnamed
  have hinitP : kP.init = .initialized := Cond.initialized_spec (findClass_of_methodNamed hnamed) hkP hinit
  obtain ⟨vm₁, X₁, hstep₁⟩ := X.invokestatic hexec hown hlink hnamed hmethM hstatic hkP hinitP hy (g := g) hg (argsL := argsL) (rest := rest) (hlen _ hsigM) hstack hdg
  obtain ⟨o, t, B, L, k, n, X', e1, e2, hq, hK, hL, hst, hr, hx⟩ := hc_backW hM hframes hlocals hws hcw hinit X₁ (g := { g with stack := rest }) (ig := .invokestatic index) (mk := mk) (a := argsL.toArray) hg hsize hdg hW (X₁.named hnamed) hc hs (hP vm₁ _ _ X₁.warmed)
  refine ⟨o, t, B, L, k, n, vm₁, _, mk, X', e1, e2, hq, hK, hL, fun v hv target h => ?_, fun x hv target h => ?_⟩
  · exact hstep₁ _ fun acts => by rw [doInvoke_state]; exact hst.trans (by rw [hr v hv]; exact h)
  · exact hstep₁ _ fun acts => by rw [doInvoke_state]; exact hst.trans (by rw [hx x hv]; exact h)
end HCKW
theorem hc_wordsW {s : State} {args : Array Value} (hts : ∀ w ∈ lw_all, w.before args s = true) {y : MethodName} {b : ByteArray} {L : Nat} {r : Option FieldType} {hh : List (Nat × Nat × Nat × Nat)} (h : Cond.codeWith y b L r hh ∈ lw_all) : ∀ w ∈ wsW_ y b L r hh, ∀ (a' : Array Value) (U : State), s.WarmedH U.vm → w.before a' U = true := by
  intro w hw a' U hW
  have hg := lw_methW h w hw
  exact word_at hW hg.2 (hts w hg.1)
section HCEW
variable {V : hc_V} {E : hc_E} {cc : ByteArray} {nL d pc : Nat} {own : String} {ret : Option FieldType} {oc : hc_Oc} {σe : hc_St} {Y : hc_Y} {X : hc_X} {lv lv' : List (Nat × Value)} {st : List Value} {σ : hc_St} {am : Nat → Nat → Nat} {tm : hc_T}
theorem hr_callVW (hC : hc_C V E cc nL own ret d oc σe Y X) {C : String} {T : u_T} {N ci idx : Nat} {y : MethodName} {bytes : ByteArray} {maxL : Nat} {r : Option FieldType} {hh : List (Nat × Nat × Nat × Nat)} {rb' : List Nat} {v : Option Value} {σ1 : hc_St} (o : Nat) (As rest : List Value) (hd : decode cc pc = .ok (.invokevirtual idx, 3)) (hlk : Cond.methodLink own idx y ∈ lw_all) (hins : Cond.instanceMethod y ∈ lw_all) (hsel : Cond.selects C y y ∈ lw_all) (hini : Cond.initialized C ∈ lw_all) (hcode : Cond.codeWith y bytes maxL r hh ∈ lw_all) (hy : C ≠ "java/lang/invoke/MethodHandle" ∧ C ≠ "java/lang/invoke/VarHandle") (hyC : y.cls = C) (hcl : V.1[ci]? = some (C, T, N)) (ho : o < V.2.1.1) (hci : V.2.1.2.1 o = ci) (hlen : (parseMethodDescriptor y.desc).map (fun sig => sig.parameters.length) = some As.length) (hw : (rest.map fun v => v.category).sum + (maxL + 11) ≤ 46) (hd1 : 1 ≤ d)
    (hM : hc_M Y.1 V y (wsW_ y bytes maxL r hh) (d - 1) E Y.2.1 (.ref (E.2.1 o) :: As) am rb' σ (.inl v) σ1) (hrb : ∀ i ∈ rb', i ∈ Y.2.2.2) (hst : st = As.reverse ++ .ref (E.2.1 o) :: rest)
    (k : ∀ am1, (∀ i j, i ∉ rb' → am1 i j = am i j) → hc_At V E nL X (pc + 3) lv (v.toList ++ rest) σ1 am1 []) : hc_At V E nL X pc lv st σ am [] := by
  intro ls H locs k9 n9 hl hR h1 h2 T9 hT S9
  subst hci; subst hst
  obtain ⟨r0, q1, cell, c1, c2, c3, c4⟩ := hR.1 o _ (hc_ws_o ho)
  have hr0 : r0 = (C, T, N) := Option.some.inj (q1.symm.trans hcl)
  subst hr0
  obtain ⟨-, hfc, -⟩ := hC.2.2.2.2.2.2.2.1.1 _ _ hcl
  have hws := hc_wordsW hC.2.2.2.2.1 hcode
  have hfr := hC.2.2.2.2.2.2.2.2.2.2.2.1
  have hlo := hC.2.2.2.2.2.2.2.2.2.2.2.2.1
  have hM1 := hM
  unfold hc_M at hM1
  have hM1 := hM1 hC.2.2.2.2.2.2.2.2.2.2.2.2.2.2.2.2.2.2.2
  rw [← hC.2.2.2.2.2.2.2.2.2.2.2.2.2.2.2.1] at hM1
  obtain ⟨oo, t, B, L, kk, nn, vm1, g1, mk, S1, e1, e2, hq, hK, hL, hr, -⟩ := hc_runVW (Wd := (rest.map fun v => v.category).sum) S9 hC.1 hC.2.2.2.1 (hC.2.2.2.2.1 _ hlk) (hC.2.2.2.2.1 _ hins) (hC.2.2.2.2.1 _ hsel) (hC.2.2.2.2.1 _ hcode) (by rw [hyC]; exact hy) hM1 (by show d - 1 + 1 ≤ _; omega) (by show _ + _ + 46 * (d - 1) ≤ _; omega) hws List.mem_cons_self (by rw [hyC]; exact hC.2.2.2.2.1 _ hini) (b := E.2.1 o) (cellB := cell) (by rw [hT]; exact c1) (by rw [c3]; rfl) (by rw [c2]; exact hfc) (g := F0 X.2.2.2.2.2.1 pc ls (As.reverse ++ .ref (E.2.1 o) :: rest)) rfl (by rw [hC.2.2.1]; exact hl.1) (argsL := As) (rest := rest) (fun sig hs => by rw [hs] at hlen; exact (Option.some.inj hlen).symm) rfl (by simp [JFrame.monitorRoom]) (by rw [hC.2.1]; exact hd) (by show k9 + σ.2.2.2.1 ≤ _; omega) (by show n9 + σ.2.2.2.2 ≤ _; omega) (fun vm1 g1 mk hW => ⟨rfl, hc_pre hC hR (U := (T9.setVm vm1).calling g1 mk _) (by exact hT) hW⟩)
  obtain ⟨am1, a1, a2, a3⟩ := hc_behind (ls := ls) (k9 := k9) (n9 := n9) hC hR hT hrb (U := (T9.setVm vm1).calling g1 mk (Value.ref (E.2.1 o) :: As).toArray) (by exact hT) hq e1 hL
  obtain ⟨t1, b1, b2⟩ := k am1 a3 ls B.heap (locs ++ L) (k9 + kk) (n9 + nn) hl a2 (by have := hK.1; omega) (by have := hK.2; omega) B rfl S1
  exact ⟨t1, hr v a1 t1 b1, b2⟩
theorem hr_callSW (hC : hc_C V E cc nL own ret d oc σe Y X) {C : String} {idx : Nat} {y : MethodName} {bytes : ByteArray} {maxL : Nat} {r : Option FieldType} {hh : List (Nat × Nat × Nat × Nat)} {rb' : List Nat} {v : Option Value} {σ1 : hc_St} (As rest : List Value) (hd : decode cc pc = .ok (.invokestatic idx, 3)) (hlk : Cond.methodLink own idx y ∈ lw_all) (hins : Cond.static y ∈ lw_all) (hini : Cond.initialized C ∈ lw_all) (hcode : Cond.codeWith y bytes maxL r hh ∈ lw_all) (hy : C ≠ "java/lang/invoke/MethodHandle" ∧ C ≠ "java/lang/invoke/VarHandle") (hyC : y.cls = C) (hlen : (parseMethodDescriptor y.desc).map (fun sig => sig.parameters.length) = some As.length) (hw : (rest.map fun v => v.category).sum + (maxL + 11) ≤ 46) (hd1 : 1 ≤ d)
    (hM : hc_M Y.1 V y (wsW_ y bytes maxL r hh) (d - 1) E Y.2.1 As am rb' σ (.inl v) σ1) (hrb : ∀ i ∈ rb', i ∈ Y.2.2.2) (hst : st = As.reverse ++ rest)
    (k : ∀ am1, (∀ i j, i ∉ rb' → am1 i j = am i j) → hc_At V E nL X (pc + 3) lv (v.toList ++ rest) σ1 am1 []) : hc_At V E nL X pc lv st σ am [] := by
  intro ls H locs k9 n9 hl hR h1 h2 T9 hT S9
  subst hst
  have hws := hc_wordsW hC.2.2.2.2.1 hcode
  have hfr := hC.2.2.2.2.2.2.2.2.2.2.2.1
  have hlo := hC.2.2.2.2.2.2.2.2.2.2.2.2.1
  have hM1 := hM
  unfold hc_M at hM1
  have hM1 := hM1 hC.2.2.2.2.2.2.2.2.2.2.2.2.2.2.2.2.2.2.2
  rw [← hC.2.2.2.2.2.2.2.2.2.2.2.2.2.2.2.1] at hM1
  obtain ⟨oo, t, B, L, kk, nn, vm1, g1, mk, S1, e1, e2, hq, hK, hL, hr, -⟩ := hc_runSW (Wd := (rest.map fun v => v.category).sum) S9 hC.1 hC.2.2.2.1 (hC.2.2.2.2.1 _ hlk) (hC.2.2.2.2.1 _ hins) (hC.2.2.2.2.1 _ hcode) (by rw [hyC]; exact hy) hM1 (by show d - 1 + 1 ≤ _; omega) (by show _ + _ + 46 * (d - 1) ≤ _; omega) hws List.mem_cons_self (by rw [hyC]; exact hC.2.2.2.2.1 _ hini) (g := F0 X.2.2.2.2.2.1 pc ls (As.reverse ++ rest)) rfl (by rw [hC.2.2.1]; exact hl.1) (argsL := As) (rest := rest) (fun sig hs => by rw [hs] at hlen; exact (Option.some.inj hlen).symm) rfl (by simp [JFrame.monitorRoom]) (by rw [hC.2.1]; exact hd) (by show k9 + σ.2.2.2.1 ≤ _; omega) (by show n9 + σ.2.2.2.2 ≤ _; omega) (fun vm1 g1 mk hW => ⟨rfl, hc_pre hC hR (U := (T9.setVm vm1).calling g1 mk _) (by exact hT) hW⟩)
  obtain ⟨am1, a1, a2, a3⟩ := hc_behind (ls := ls) (k9 := k9) (n9 := n9) hC hR hT hrb (U := (T9.setVm vm1).calling g1 mk As.toArray) (by exact hT) hq e1 hL
  obtain ⟨t1, b1, b2⟩ := k am1 a3 ls B.heap (locs ++ L) (k9 + kk) (n9 + nn) hl a2 (by have := hK.1; omega) (by have := hK.2; omega) B rfl S1
  exact ⟨t1, hr v a1 t1 b1, b2⟩
theorem hc_enterW {hh : List (Nat × Nat × Nat × Nat)} {l : Launch} {y : MethodName} {A : Nat → Prop} {a : List Value} {rb : List Nat} (lv0 : List (Nat × Value)) (hy : plainName y.cls = true) (hown : y.cls = own) (hV : hc_St1 V) (hnd : V.2.1.2.2.2.2.2.Nodup) (he : ∀ m : MethodId, ∃ ls : Array Slot, entryFrame m a.toArray nL = F0 m 0 ls [] ∧ lv_has ls nL lv0)
    (body : ∀ X : hc_X, hc_C V E cc nL own ret d oc σe (l, A, am, rb) X → X.2.2.2.2.2.2.2.2.2.1.exceptionTable.toList = tableOf hh → hc_At V E nL X 0 lv0 [] σ am []) : hc_M l V y (wsW_ y cc nL ret hh) d E A a am rb σ oc σe := by
  intro hnt
  refine hc_ofWW (cc := cc) (maxL := nL) (ret := ret) hy rfl ?_
  intro p e s m args below meth c s₁ B hml hem hv
  obtain ⟨rfl, hP, hD, hK, hJ, hA⟩ := hv
  have hts := atoms_spec (ws := wsW_ y cc nL ret hh) B.pre
  have hts : ∀ w ∈ lw_all, w.before _ s = true := fun w h => hts w (List.mem_cons_of_mem _ h)
  have hfc : s.vm.findClass own = some m.cls := by rw [← hown]; exact findClass_of_methodNamed B.named
  obtain ⟨ls, e1, e2⟩ := he m
  rw [e1]
  exact body (p, l, e, _, s, m, a.toArray, below, meth, c, A, _, am, rb) ⟨B.exec, B.bytes, hml, hfc, hts, B.returns, B.notSynchronized, hK, hJ, hV, hA, rfl, rfl, hnd, rfl, rfl, rfl, rfl, rfl, hnt⟩ hem ls s.heap [] 0 0 e2 ⟨hP, hD, va_S.rf, fun _ _ _ => rfl⟩ rfl rfl
end HCEW
section HCT
variable {E : hc_E} {cc : ByteArray} {nL d pc : Nat} {own : String} {ret : Option FieldType} {oc : hc_Oc} {σe : hc_St} {Y : hc_Y} {X : hc_X} {lv lv' : List (Nat × Value)} {st : List Value} {σ : hc_St} {am : Nat → Nat → Nat} {tm : hc_T}
theorem hr_callVc {kx hpc : Nat} {σ1 : hc_St} (hC : hc_C hc_V0 E cc nL own ret d oc σe Y X) {hh : List (Nat × Nat × Nat × Nat)} (hem : X.2.2.2.2.2.2.2.2.2.1.exceptionTable.toList = tableOf hh) {C : String} {T : u_T} {N ci idx : Nat} {y : MethodName} {bytes : ByteArray} {maxL : Nat} {r : Option FieldType} {rb' : List Nat} (o : Nat) (As rest : List Value) (hd : decode cc pc = .ok (.invokevirtual idx, 3)) (hlk : Cond.methodLink own idx y ∈ lw_all) (hins : Cond.instanceMethod y ∈ lw_all) (hsel : Cond.selects C y y ∈ lw_all) (hini : Cond.initialized C ∈ lw_all) (hcode : Cond.code y bytes maxL r ∈ lw_all) (hy : C ≠ "java/lang/invoke/MethodHandle" ∧ C ≠ "java/lang/invoke/VarHandle") (hyC : y.cls = C) (hcl : hc_V0.1[ci]? = some (C, T, N)) (ho : o < hc_V0.2.1.1) (hci : hc_V0.2.1.2.1 o = ci) (hlen : (parseMethodDescriptor y.desc).map (fun sig => sig.parameters.length) = some As.length) (hw : (rest.map fun v => v.category).sum + (maxL + 11) ≤ 46) (hd1 : 1 ≤ d)
    (hM : hc_M Y.1 hc_V0 y (ws_ y bytes maxL r) (d - 1) E Y.2.1 (.ref (E.2.1 o) :: As) am rb' σ (.inr kx) σ1) (hrb : ∀ i ∈ rb', i ∈ Y.2.2.2) (hst : st = As.reverse ++ .ref (E.2.1 o) :: rest)
    (hf : hh_F own kx pc hh hpc)
    (k : ∀ am1 x, (∀ i j, i ∉ rb' → am1 i j = am i j) → hc_At hc_V0 E nL X hpc lv [.ref x] σ1 am1 []) : hc_At hc_V0 E nL X pc lv st σ am [] := by
  intro ls H locs k9 n9 hl hR h1 h2 T9 hT S9
  subst hci; subst hst
  obtain ⟨r0, q1, cell, c1, c2, c3, c4⟩ := hR.1 o _ (hc_ws_o ho)
  have hr0 : r0 = (C, T, N) := Option.some.inj (q1.symm.trans hcl)
  subst hr0
  obtain ⟨-, hfc, -⟩ := hC.2.2.2.2.2.2.2.1.1 _ _ hcl
  have hws := hc_words hC.2.2.2.2.1 hcode
  have hfr := hC.2.2.2.2.2.2.2.2.2.2.2.1
  have hlo := hC.2.2.2.2.2.2.2.2.2.2.2.2.1
  have hM1 := hM
  unfold hc_M at hM1
  have hM1 := hM1 hC.2.2.2.2.2.2.2.2.2.2.2.2.2.2.2.2.2.2.2
  rw [← hC.2.2.2.2.2.2.2.2.2.2.2.2.2.2.2.1] at hM1
  obtain ⟨oo, t, B, L, kk, nn, vm1, g1, mk, S1, e1, e2, hq, hK, hL, -, hx⟩ := hc_runV (Wd := (rest.map fun v => v.category).sum) S9 hC.1 hC.2.2.2.1 (hC.2.2.2.2.1 _ hlk) (hC.2.2.2.2.1 _ hins) (hC.2.2.2.2.1 _ hsel) (hC.2.2.2.2.1 _ hcode) (by rw [hyC]; exact hy) hM1 (by show d - 1 + 1 ≤ _; omega) (by show _ + _ + 46 * (d - 1) ≤ _; omega) hws List.mem_cons_self (by rw [hyC]; exact hC.2.2.2.2.1 _ hini) (b := E.2.1 o) (cellB := cell) (by rw [hT]; exact c1) (by rw [c3]; rfl) (by rw [c2]; exact hfc) (g := F0 X.2.2.2.2.2.1 pc ls (As.reverse ++ .ref (E.2.1 o) :: rest)) rfl (by rw [hC.2.2.1]; exact hl.1) (argsL := As) (rest := rest) (fun sig hs => by rw [hs] at hlen; exact (Option.some.inj hlen).symm) rfl (by simp [JFrame.monitorRoom]) (by rw [hC.2.1]; exact hd) (by show k9 + σ.2.2.2.1 ≤ _; omega) (by show n9 + σ.2.2.2.2 ≤ _; omega) (fun vm1 g1 mk hW => ⟨rfl, hc_pre hC hR (U := (T9.setVm vm1).calling g1 mk _) (by exact hT) hW⟩)
  obtain ⟨am1, a1, a2, a3⟩ := hc_behind (ls := ls) (k9 := k9) (n9 := n9) hC hR hT hrb (U := (T9.setVm vm1).calling g1 mk (Value.ref (E.2.1 o) :: As).toArray) (by exact hT) hq e1 hL
  obtain ⟨x, hox, hxc⟩ := a1
  have hxc1 : hc_xc kx x B := by
    obtain ⟨cell, z1, z2, z3, z4⟩ := hxc
    exact ⟨cell, by rw [e1]; exact z1, z2, z3, by rw [e2]; exact z4⟩
  obtain ⟨vm', S2, st2⟩ := hh_caught (J := hC.2.2.2.2.2.2.2.2.1) S1 hC.2.2.2.1 hC.2.2.2.2.1 hem hf hxc1 (g := F0 X.2.2.2.2.2.1 pc ls rest) rfl
  obtain ⟨t1, b1, b2⟩ := k am1 x a3 ls B.heap (locs ++ L) (k9 + kk) (n9 + nn) hl a2 (by have := hK.1; omega) (by have := hK.2; omega) (B.setVm vm') rfl S2
  exact ⟨t1, hx x hox t1 (st2 t1 b1), b2⟩
theorem hr_callSc {kx hpc : Nat} {σ1 : hc_St} (hC : hc_C hc_V0 E cc nL own ret d oc σe Y X) {hh : List (Nat × Nat × Nat × Nat)} (hem : X.2.2.2.2.2.2.2.2.2.1.exceptionTable.toList = tableOf hh) {C : String} {idx : Nat} {y : MethodName} {bytes : ByteArray} {maxL : Nat} {r : Option FieldType} {rb' : List Nat} (As rest : List Value) (hd : decode cc pc = .ok (.invokestatic idx, 3)) (hlk : Cond.methodLink own idx y ∈ lw_all) (hins : Cond.static y ∈ lw_all) (hini : Cond.initialized C ∈ lw_all) (hcode : Cond.code y bytes maxL r ∈ lw_all) (hy : C ≠ "java/lang/invoke/MethodHandle" ∧ C ≠ "java/lang/invoke/VarHandle") (hyC : y.cls = C) (hlen : (parseMethodDescriptor y.desc).map (fun sig => sig.parameters.length) = some As.length) (hw : (rest.map fun v => v.category).sum + (maxL + 11) ≤ 46) (hd1 : 1 ≤ d)
    (hM : hc_M Y.1 hc_V0 y (ws_ y bytes maxL r) (d - 1) E Y.2.1 As am rb' σ (.inr kx) σ1) (hrb : ∀ i ∈ rb', i ∈ Y.2.2.2) (hst : st = As.reverse ++ rest)
    (hf : hh_F own kx pc hh hpc)
    (k : ∀ am1 x, (∀ i j, i ∉ rb' → am1 i j = am i j) → hc_At hc_V0 E nL X hpc lv [.ref x] σ1 am1 []) : hc_At hc_V0 E nL X pc lv st σ am [] := by
  intro ls H locs k9 n9 hl hR h1 h2 T9 hT S9
  subst hst
  have hws := hc_words hC.2.2.2.2.1 hcode
  have hfr := hC.2.2.2.2.2.2.2.2.2.2.2.1
  have hlo := hC.2.2.2.2.2.2.2.2.2.2.2.2.1
  have hM1 := hM
  unfold hc_M at hM1
  have hM1 := hM1 hC.2.2.2.2.2.2.2.2.2.2.2.2.2.2.2.2.2.2.2
  rw [← hC.2.2.2.2.2.2.2.2.2.2.2.2.2.2.2.1] at hM1
  obtain ⟨oo, t, B, L, kk, nn, vm1, g1, mk, S1, e1, e2, hq, hK, hL, -, hx⟩ := hc_runS (Wd := (rest.map fun v => v.category).sum) S9 hC.1 hC.2.2.2.1 (hC.2.2.2.2.1 _ hlk) (hC.2.2.2.2.1 _ hins) (hC.2.2.2.2.1 _ hcode) (by rw [hyC]; exact hy) hM1 (by show d - 1 + 1 ≤ _; omega) (by show _ + _ + 46 * (d - 1) ≤ _; omega) hws List.mem_cons_self (by rw [hyC]; exact hC.2.2.2.2.1 _ hini) (g := F0 X.2.2.2.2.2.1 pc ls (As.reverse ++ rest)) rfl (by rw [hC.2.2.1]; exact hl.1) (argsL := As) (rest := rest) (fun sig hs => by rw [hs] at hlen; exact (Option.some.inj hlen).symm) rfl (by simp [JFrame.monitorRoom]) (by rw [hC.2.1]; exact hd) (by show k9 + σ.2.2.2.1 ≤ _; omega) (by show n9 + σ.2.2.2.2 ≤ _; omega) (fun vm1 g1 mk hW => ⟨rfl, hc_pre hC hR (U := (T9.setVm vm1).calling g1 mk _) (by exact hT) hW⟩)
  obtain ⟨am1, a1, a2, a3⟩ := hc_behind (ls := ls) (k9 := k9) (n9 := n9) hC hR hT hrb (U := (T9.setVm vm1).calling g1 mk As.toArray) (by exact hT) hq e1 hL
  obtain ⟨x, hox, hxc⟩ := a1
  have hxc1 : hc_xc kx x B := by
    obtain ⟨cell, z1, z2, z3, z4⟩ := hxc
    exact ⟨cell, by rw [e1]; exact z1, z2, z3, by rw [e2]; exact z4⟩
  obtain ⟨vm', S2, st2⟩ := hh_caught (J := hC.2.2.2.2.2.2.2.2.1) S1 hC.2.2.2.1 hC.2.2.2.2.1 hem hf hxc1 (g := F0 X.2.2.2.2.2.1 pc ls rest) rfl
  obtain ⟨t1, b1, b2⟩ := k am1 x a3 ls B.heap (locs ++ L) (k9 + kk) (n9 + nn) hl a2 (by have := hK.1; omega) (by have := hK.2; omega) (B.setVm vm') rfl S2
  exact ⟨t1, hx x hox t1 (st2 t1 b1), b2⟩
end HCT
section HCSW
variable {V : hc_V} {E : hc_E} {cc : ByteArray} {nL d pc : Nat} {own : String} {ret : Option FieldType} {oc : hc_Oc} {σe : hc_St} {Y : hc_Y} {X : hc_X} {lv lv' : List (Nat × Value)} {st : List Value} {σ : hc_St} {am : Nat → Nat → Nat} {tm : hc_T} {C : String} {T : u_T} {N idx o f : Nat}
theorem hc_enter2W {hh : List (Nat × Nat × Nat × Nat)} {l : Launch} {y : MethodName} {A : Nat → Prop} {a : List Value} {rb : List Nat} (lv0 : List (Nat × Value)) (hy : plainName own = true) (hown : y.cls = own) (hV : hc_St1 V) (hnd : V.2.1.2.2.2.2.2.Nodup) (hlv : lv_args 0 a = lv0) (hle : (lg_sl a).length ≤ nL)
    (body : ∀ X : hc_X, hc_C V E cc nL own ret d oc σe (l, A, am, rb) X → X.2.2.2.2.2.2.2.2.2.1.exceptionTable.toList = tableOf hh → hc_At V E nL X 0 lv0 [] σ am []) : hc_M l V y (wsW_ y cc nL ret hh) d E A a am rb σ oc σe := by
  subst hlv
  refine hc_enterW _ (by rw [hown]; exact hy) hown hV hnd (fun m => ⟨_, ?_, lv_entry a hle⟩) body
  rw [lg_entry_eq]
theorem hs_callVW (hC : hc_C V E cc nL own ret d oc σe Y X) {idx : Nat} {y : MethodName} {bytes : ByteArray} {maxL : Nat} {r : Option FieldType} {hh : List (Nat × Nat × Nat × Nat)} {rb' : List Nat} {v : Option Value} {σ1 : hc_St} (o : Nat) (As rest : List Value) (hd : decode cc pc = .ok (.invokevirtual idx, 3)) (hlk : Cond.methodLink own idx y ∈ lw_all) (hins : Cond.instanceMethod y ∈ lw_all) (hsel : Cond.selects C y y ∈ lw_all) (hini : Cond.initialized C ∈ lw_all) (hcode : Cond.codeWith y bytes maxL r hh ∈ lw_all) (hy : C ≠ "java/lang/invoke/MethodHandle" ∧ C ≠ "java/lang/invoke/VarHandle") (hyC : y.cls = C) (hO : hc_Ob V C o) (hlen : (parseMethodDescriptor y.desc).map (fun sig => sig.parameters.length) = some As.length) (hw : (rest.map fun v => v.category).sum + (maxL + 11) ≤ 46) (hd1 : 1 ≤ d)
    (hM : hc_M Y.1 V y (wsW_ y bytes maxL r hh) (d - 1) E Y.2.1 (.ref (E.2.1 o) :: As) am rb' σ (.inl v) σ1) (hrb : ∀ i ∈ rb', i ∈ Y.2.2.2) (hst : st = As.reverse ++ .ref (E.2.1 o) :: rest) (k : ∀ am1, (∀ i j, i ∉ rb' → am1 i j = am i j) → hc_At V E nL X (pc + 3) lv (v.toList ++ rest) σ1 am1 []) : hc_At V E nL X pc lv st σ am [] := by
  obtain ⟨T, N, h1, h2⟩ := hO
  exact hr_callVW hC o As rest hd hlk hins hsel hini hcode hy hyC h1 h2 rfl hlen hw hd1 hM hrb hst k
theorem hs_callV0W (hC : hc_C V E cc nL own ret d oc σe Y X) {idx : Nat} {y : MethodName} {bytes : ByteArray} {maxL : Nat} {r : Option FieldType} {hh : List (Nat × Nat × Nat × Nat)} {v : Option Value} {σ1 : hc_St} (o : Nat) (As rest : List Value) (hd : decode cc pc = .ok (.invokevirtual idx, 3)) (hlk : Cond.methodLink own idx y ∈ lw_all) (hins : Cond.instanceMethod y ∈ lw_all) (hsel : Cond.selects C y y ∈ lw_all) (hini : Cond.initialized C ∈ lw_all) (hcode : Cond.codeWith y bytes maxL r hh ∈ lw_all) (hy : C ≠ "java/lang/invoke/MethodHandle" ∧ C ≠ "java/lang/invoke/VarHandle") (hyC : y.cls = C) (hO : hc_Ob V C o) (hlen : (parseMethodDescriptor y.desc).map (fun sig => sig.parameters.length) = some As.length) (hw : (rest.map fun v => v.category).sum + (maxL + 11) ≤ 46) (hd1 : 1 ≤ d)
    (hM : hc_M Y.1 V y (wsW_ y bytes maxL r hh) (d - 1) E Y.2.1 (.ref (E.2.1 o) :: As) am [] σ (.inl v) σ1) (hst : st = As.reverse ++ .ref (E.2.1 o) :: rest) (k : hc_At V E nL X (pc + 3) lv (v.toList ++ rest) σ1 am []) : hc_At V E nL X pc lv st σ am [] := by
  obtain ⟨T, N, h1, h2⟩ := hO
  refine hr_callVW hC o As rest hd hlk hins hsel hini hcode hy hyC h1 h2 rfl hlen hw hd1 hM (fun i h => by cases h) hst (fun am1 ha => ?_)
  have e : am1 = am := funext fun i => funext fun j => ha i j (by simp)
  rw [e]; exact k
theorem hs_callSW (hC : hc_C V E cc nL own ret d oc σe Y X) {idx : Nat} {y : MethodName} {bytes : ByteArray} {maxL : Nat} {r : Option FieldType} {hh : List (Nat × Nat × Nat × Nat)} {rb' : List Nat} {v : Option Value} {σ1 : hc_St} (As rest : List Value) (hd : decode cc pc = .ok (.invokestatic idx, 3)) (hlk : Cond.methodLink own idx y ∈ lw_all) (hins : Cond.static y ∈ lw_all) (hini : Cond.initialized C ∈ lw_all) (hcode : Cond.codeWith y bytes maxL r hh ∈ lw_all) (hy : C ≠ "java/lang/invoke/MethodHandle" ∧ C ≠ "java/lang/invoke/VarHandle") (hyC : y.cls = C) (hlen : (parseMethodDescriptor y.desc).map (fun sig => sig.parameters.length) = some As.length) (hw : (rest.map fun v => v.category).sum + (maxL + 11) ≤ 46) (hd1 : 1 ≤ d)
    (hM : hc_M Y.1 V y (wsW_ y bytes maxL r hh) (d - 1) E Y.2.1 As am rb' σ (.inl v) σ1) (hrb : ∀ i ∈ rb', i ∈ Y.2.2.2) (hst : st = As.reverse ++ rest) (k : ∀ am1, (∀ i j, i ∉ rb' → am1 i j = am i j) → hc_At V E nL X (pc + 3) lv (v.toList ++ rest) σ1 am1 []) : hc_At V E nL X pc lv st σ am [] := by
  exact hr_callSW hC As rest hd hlk hins hini hcode hy hyC hlen hw hd1 hM hrb hst k
theorem hs_callS0W (hC : hc_C V E cc nL own ret d oc σe Y X) {idx : Nat} {y : MethodName} {bytes : ByteArray} {maxL : Nat} {r : Option FieldType} {hh : List (Nat × Nat × Nat × Nat)} {v : Option Value} {σ1 : hc_St} (As rest : List Value) (hd : decode cc pc = .ok (.invokestatic idx, 3)) (hlk : Cond.methodLink own idx y ∈ lw_all) (hins : Cond.static y ∈ lw_all) (hini : Cond.initialized C ∈ lw_all) (hcode : Cond.codeWith y bytes maxL r hh ∈ lw_all) (hy : C ≠ "java/lang/invoke/MethodHandle" ∧ C ≠ "java/lang/invoke/VarHandle") (hyC : y.cls = C) (hlen : (parseMethodDescriptor y.desc).map (fun sig => sig.parameters.length) = some As.length) (hw : (rest.map fun v => v.category).sum + (maxL + 11) ≤ 46) (hd1 : 1 ≤ d)
    (hM : hc_M Y.1 V y (wsW_ y bytes maxL r hh) (d - 1) E Y.2.1 As am [] σ (.inl v) σ1) (hst : st = As.reverse ++ rest) (k : hc_At V E nL X (pc + 3) lv (v.toList ++ rest) σ1 am []) : hc_At V E nL X pc lv st σ am [] := by
  refine hr_callSW hC As rest hd hlk hins hini hcode hy hyC hlen hw hd1 hM (fun i h => by cases h) hst (fun am1 ha => ?_)
  have e : am1 = am := funext fun i => funext fun j => ha i j (by simp)
  rw [e]; exact k
end HCSW
section HCTS
variable {E : hc_E} {cc : ByteArray} {nL d pc : Nat} {own : String} {ret : Option FieldType} {oc : hc_Oc} {σe : hc_St} {Y : hc_Y} {X : hc_X} {lv lv' : List (Nat × Value)} {st : List Value} {σ : hc_St} {am : Nat → Nat → Nat} {tm : hc_T} {C : String} {T : u_T} {N idx o f : Nat}
theorem hs_callVc {kx hpc : Nat} {σ1 : hc_St} (hC : hc_C hc_V0 E cc nL own ret d oc σe Y X) {hh : List (Nat × Nat × Nat × Nat)} (hem : X.2.2.2.2.2.2.2.2.2.1.exceptionTable.toList = tableOf hh) {idx : Nat} {y : MethodName} {bytes : ByteArray} {maxL : Nat} {r : Option FieldType} {rb' : List Nat} (o : Nat) (As rest : List Value) (hd : decode cc pc = .ok (.invokevirtual idx, 3)) (hlk : Cond.methodLink own idx y ∈ lw_all) (hins : Cond.instanceMethod y ∈ lw_all) (hsel : Cond.selects C y y ∈ lw_all) (hini : Cond.initialized C ∈ lw_all) (hcode : Cond.code y bytes maxL r ∈ lw_all) (hy : C ≠ "java/lang/invoke/MethodHandle" ∧ C ≠ "java/lang/invoke/VarHandle") (hyC : y.cls = C) (hO : hc_Ob hc_V0 C o) (hlen : (parseMethodDescriptor y.desc).map (fun sig => sig.parameters.length) = some As.length) (hw : (rest.map fun v => v.category).sum + (maxL + 11) ≤ 46) (hd1 : 1 ≤ d)
    (hM : hc_M Y.1 hc_V0 y (ws_ y bytes maxL r) (d - 1) E Y.2.1 (.ref (E.2.1 o) :: As) am rb' σ (.inr kx) σ1) (hrb : ∀ i ∈ rb', i ∈ Y.2.2.2) (hst : st = As.reverse ++ .ref (E.2.1 o) :: rest) (hf : hh_F own kx pc hh hpc) (k : ∀ am1 x, (∀ i j, i ∉ rb' → am1 i j = am i j) → hc_At hc_V0 E nL X hpc lv [.ref x] σ1 am1 []) : hc_At hc_V0 E nL X pc lv st σ am [] := by
  obtain ⟨T, N, h1, h2⟩ := hO
  exact hr_callVc hC hem o As rest hd hlk hins hsel hini hcode hy hyC h1 h2 rfl hlen hw hd1 hM hrb hst hf k
theorem hs_callSc {kx hpc : Nat} {σ1 : hc_St} (hC : hc_C hc_V0 E cc nL own ret d oc σe Y X) {hh : List (Nat × Nat × Nat × Nat)} (hem : X.2.2.2.2.2.2.2.2.2.1.exceptionTable.toList = tableOf hh) {idx : Nat} {y : MethodName} {bytes : ByteArray} {maxL : Nat} {r : Option FieldType} {rb' : List Nat} (As rest : List Value) (hd : decode cc pc = .ok (.invokestatic idx, 3)) (hlk : Cond.methodLink own idx y ∈ lw_all) (hins : Cond.static y ∈ lw_all) (hini : Cond.initialized C ∈ lw_all) (hcode : Cond.code y bytes maxL r ∈ lw_all) (hy : C ≠ "java/lang/invoke/MethodHandle" ∧ C ≠ "java/lang/invoke/VarHandle") (hyC : y.cls = C) (hlen : (parseMethodDescriptor y.desc).map (fun sig => sig.parameters.length) = some As.length) (hw : (rest.map fun v => v.category).sum + (maxL + 11) ≤ 46) (hd1 : 1 ≤ d)
    (hM : hc_M Y.1 hc_V0 y (ws_ y bytes maxL r) (d - 1) E Y.2.1 As am rb' σ (.inr kx) σ1) (hrb : ∀ i ∈ rb', i ∈ Y.2.2.2) (hst : st = As.reverse ++ rest) (hf : hh_F own kx pc hh hpc) (k : ∀ am1 x, (∀ i j, i ∉ rb' → am1 i j = am i j) → hc_At hc_V0 E nL X hpc lv [.ref x] σ1 am1 []) : hc_At hc_V0 E nL X pc lv st σ am [] := by
  exact hr_callSc hC hem As rest hd hlk hins hini hcode hy hyC hlen hw hd1 hM hrb hst hf k
end HCTS
