/-! ===== hc_: contracts with both ends (a value, an exception); a store of numbers over a world of fixed objects ===== -/
/-- what a run leaves behind, however it ends -/
def hc_FE (first t : State) (L : List Loc) (k n : Nat) : Prop := first.WarmedH t.vm ∧ first.sameButNew ({ t with vm := first.vm } : State) L k n
/-- a contract: Qc says how it ends, K what it made -/
def hc_Mt (l : Launch) (y : MethodName) (ws : List Cond) (rm : Room) (Pc : Array Value → State → Prop) (Qc : Array Value → State → Outcome → State → Prop) (free : Addr → Prop) (K : Nat → Nat → Prop) : Prop :=
  MetFree l y (headSpec ws rm) Pc (fun _ _ _ _ _ => True) (fun a st o t => Qc a st o t ∧ ∃ L k n, hc_FE st t L k n ∧ K k n ∧ ∀ q ∈ L, free q.base)
def hc_MQ (below : List Frame) (Qc : Array Value → State → Outcome → State → Prop) (a : Array Value) (s : State) (free : Addr → Prop) (K : Nat → Nat → Prop) : State → Prop := fun t =>
  ∃ o, t.status = .running ∧ Ended t below o ∧ Qc a s o t ∧ ∃ L k n, hc_FE s t L k n ∧ K k n ∧ ∀ q ∈ L, free q.base
section HCW
variable {p : Program} {l : Launch} {e : Env} {R : Room} {s : State} {m : MethodId} {args : Array Value} {below : List Frame} {meth : Method} {c : Code} {H : Heap} {locs : List Loc} {cells slots : Nat} {Q : State → Prop}
theorem hc_mono {Q' : State → Prop} {g : JFrame} (h : ∀ t, Q t → Q' t) (k : W p l e R s m args below meth c H locs cells slots Q g) : W p l e R s m args below meth c H locs cells slots Q' g := by
  intro T hT X
  obtain ⟨t, a, b⟩ := k T hT X
  exact ⟨t, a, h t b⟩
theorem hc_ofMQ {Qc : Array Value → State → Outcome → State → Prop} {free : Addr → Prop} {K : Nat → Nat → Prop} {g : JFrame} (hk : K cells slots) (k : W p l e R s m args below meth c H locs cells slots (MQ below Qc args s cells slots free) g) : W p l e R s m args below meth c H locs cells slots (hc_MQ below Qc args s free K) g := by
  refine hc_mono (fun t h => ?_) k
  obtain ⟨o, h1, h2, h3, L, ⟨-, h4, h5⟩, h6⟩ := h
  exact ⟨o, h1, h2, h3, L, cells, slots, ⟨h4, h5⟩, hk, h6⟩
theorem hc_ofW {y : MethodName} {ws ws' : List Cond} {rm : Room} {Pc : Array Value → State → Prop} {Qc : Array Value → State → Outcome → State → Prop} {free : Addr → Prop} {K : Nat → Nat → Prop} {cc : ByteArray} {maxL : Nat} {ret : Option FieldType}
    (hy : plainName y.cls = true) (hw : ws = Cond.code y cc maxL ret :: ws')
    (body : ∀ p e s m args below meth c s₁, BodyLoose p l y (headSpec ws rm) cc maxL ret e s m args below meth c s₁ → c.maxLocals = maxL → c.exceptionTable.isEmpty = true → Pc args s →
      W p l e (headSpec ws rm).room s m args below meth c s.heap [] 0 0 (hc_MQ below Qc args s free K) (entryFrame m args maxL)) : hc_Mt l y ws rm Pc Qc free K := by
  refine MetFree.of_bodyS (code := cc) (maxLocals := maxL) (ret := ret) hy ?_ ?_
  · intro args s m h hn
    obtain ⟨meth, c, h1, h2, h3, h4, h5, h6, -, -⟩ := Cond.code_spec hn (atoms_spec (ws := ws) h _ (by rw [hw]; exact List.mem_cons_self))
    exact ⟨meth, c, h1, h2, h3, h4, h5, h6⟩
  · intro p e s m args below meth c s₁ B hml hP _
    have hh0 : s₁.heap = s.heap := by rw [B.state]; rfl
    have hem : c.exceptionTable.isEmpty = true := B.noHandlers (atoms_spec (ws := ws) B.pre _ (by rw [hw]; exact List.mem_cons_self))
    obtain ⟨t, a1, o, b1, b2, b3⟩ := body p e s m args below meth c s₁ B hml hem hP s₁ hh0 (Stand.of_body B)
    exact ⟨t, o, a1, b1, b2, ⟨b3.1, b3.2⟩⟩
/-- the point behind a call, whichever way the callee ended -/
theorem hc_back {y : MethodName} {ws : List Cond} {rm : Room} {Pc : Array Value → State → Prop} {Qc : Array Value → State → Outcome → State → Prop} {free : Addr → Prop} {K : Nat → Nat → Prop} {bytes : ByteArray} {maxL len Wd : Nat} {ret : Option FieldType}
    (hM : hc_Mt l y ws rm Pc Qc free K) (hframes : rm.frames + 1 ≤ R.frames) (hlocals : Wd + (maxL + 11) + rm.locals ≤ R.locals)
    (hws : ∀ w ∈ ws, ∀ (a' : Array Value) (U : State), s.WarmedH U.vm → w.before a' U = true) (hcode : Cond.code y bytes maxL ret ∈ ws) (hinit : (Cond.initialized y.cls).before args s = true)
    {U : State} (X : Stand p l e R s m args below meth c U locs cells slots) {g : JFrame} {ig : Instr} {mk : MethodId} {a : Array Value} (hg : g.method = m) (hsize : g.locals.size = c.maxLocals) (hdg : decode c.code g.pc = .ok (ig, len))
    (hW : 2 * g.monitorRoom + (g.stack.map fun v => v.category).sum ≤ Wd) (hn : U.methodNamed? y = some mk) (hc : cells + rm.cells ≤ R.cells) (hs : slots + rm.slots ≤ R.slots) (hP : Pc a (U.calling g mk a)) :
    ∃ (o : Outcome) (t : State) (B : State) (L : List Loc) (k n : Nat), Stand p l e R s m args below meth c B (locs ++ L) (cells + k) (slots + n) ∧ B.heap = t.heap ∧ B.vm = t.vm ∧ Qc a (U.calling g mk a) o t ∧ K k n ∧ (∀ q ∈ L, free q.base) ∧
      Steps p.tables e below (doInvoke e (U.setTop g) [] mk a).1 t ∧
      (∀ v, o = .returned v → t = B.setTop { g with pc := g.pc + len, stack := v.toList ++ g.stack }) ∧ (∀ x, o = .threw x → t = (B.setTop g).pushFrame (.throwing x)) := by
  have h2 : (Cond.code y bytes maxL ret).before a U = true := hws _ hcode _ _ X.warmed
  have h3 : (Cond.initialized y.cls).before a U = true := word_at X.warmed (Or.inl (by first | rfl | simp [Cond.onTables, Cond.keeps, Cond.steady])) hinit
  have h1 : (headSpec ws rm).pre.before a U = true := atoms_intro fun w hw => hws w hw _ _ X.warmed
  obtain ⟨methY, cY, hmY, hcY, -, hlY, -, -, -, -⟩ := Cond.code_spec hn h2
  obtain ⟨kY, hkY, -⟩ := className_of_methodNamed hn
  have hinitY : kY.init = .initialized := Cond.initialized_spec (findClass_of_methodNamed hn) hkY h3
  have h : At U g.method c below := by rw [hg]; exact X.here
  have happ : (headSpec ws rm).appliesLoose y e.platform (U.calling g mk a) = true :=
    Spec.appliesLoose_calling (g := g) h hdg hn hkY hinitY
      (X.room_calling (g := g) (R' := (headSpec ws rm).room) hsize hmY hcY hframes (by rw [hlY]; show _ + rm.locals ≤ _; omega) hc hs) h1
  obtain ⟨mid, hmid⟩ := h.above
  have hfr : (U.setTop g).frames = (.java g :: mid) ++ below := by rw [State.frames_setTop' g h.top, hmid]; rfl
  obtain ⟨o, s₂, hsteps, -, hend, hq⟩ := Steps.callFree hM p X.admits X.cas X.clock (acts := []) hfr happ hP trivial
  rw [State.frames_setTop' g h.top] at hend
  have hq : Qc a (U.calling g mk a) o s₂ ∧ ∃ L k n, hc_FE (U.calling g mk a) s₂ L k n ∧ K k n ∧ ∀ q ∈ L, free q.base := hq
  obtain ⟨hq', L, k, n, ⟨hW₂, e2, q2, q3, q4, q5, q6⟩, hK, hL⟩ := hq
  have e3 : s₂ = ({ (U.calling g mk a).setFrames s₂.frames with heap := s₂.heap, slotsUsed := s₂.slotsUsed } : State).setVm s₂.vm := by
    have : s₂ = ({ s₂ with vm := (U.calling g mk a).vm } : State).setVm s₂.vm := rfl
    rw [e2] at this
    exact this
  have hW' : U.WarmedH s₂.vm := hW₂
  obtain ⟨g₀, hg0⟩ := Option.isSome_iff_exists.mp h.top
  obtain ⟨r, hr⟩ := State.topJava?_eq_some.mp hg0
  have hr' : (({ U with heap := s₂.heap, slotsUsed := s₂.slotsUsed } : State).setVm s₂.vm).frames = .java g₀ :: r := hr
  have hsame : U.sameButNew ({ U with heap := s₂.heap, slotsUsed := s₂.slotsUsed } : State) L k n := by
    refine ⟨?_, q2, q3, q4, q5, q6⟩
    obtain ⟨t, ht, -⟩ := State.frames_cons hr
    show ({ U with heap := s₂.heap, slotsUsed := s₂.slotsUsed } : State) = { U.setFrames U.frames with heap := s₂.heap, slotsUsed := s₂.slotsUsed }
    rw [State.setFrames_self ht]
  subst hg
  refine ⟨o, s₂, ({ U with heap := s₂.heap, slotsUsed := s₂.slotsUsed } : State).setVm s₂.vm, L, k, n,
    ⟨X.admits, X.cas, X.clock, X.frames, X.room, X.hears, X.method, X.code, (X.here.setHeapUsed s₂.heap s₂.slotsUsed).setVm hW'.alike, X.tail, State.WarmedH.trans X.warmed hW', X.limits, X.bytes, X.same.trans (hsame.setVm s.vm)⟩,
    rfl, rfl, hq', hK, hL, hsteps, ?_, ?_⟩
  · intro v hv
    subst hv
    obtain ⟨c₂, i₂, len₂, hc₂, hd₂, hf₂⟩ := hend
    have hcc : c₂ = c := by
      have h1 : s₂.code? g.method = U.code? g.method := by
        rw [State.code?_eq, State.code?_eq, hW'.alike.method?]
      exact Option.some.inj (hc₂.symm.trans (h1.trans h.code))
    subst hcc
    have hlen : len₂ = len := by rw [hdg] at hd₂; cases hd₂; rfl
    subst hlen
    refine e3.trans ?_
    rw [hf₂, State.calling_eq h.top, State.setFrames_setFrames, State.setTop_of_frames _ hr', hr]
    rfl
  · intro x hx
    subst hx
    have hf₂ : s₂.frames = .throwing x :: .java g :: U.frames.tail := hend
    refine e3.trans ?_
    rw [hf₂, State.calling_eq h.top, State.setFrames_setFrames, State.pushFrame, State.frames_setTop _ hr', State.setTop_of_frames _ hr', State.setFrames_setFrames, hr]
    rfl
end HCW
