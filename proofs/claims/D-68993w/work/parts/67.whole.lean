set_option maxRecDepth 100000
def R_law : String := "HomeCompilerLaw"
def lw_P (b : Addr) (xs : List Int32) (args : Array Value) (s : State) : Prop := args = #[.ref b] ∧ s.IntsAt b xs ∧ xs.length ≤ 384 ∧ (Jvm.Cond.and given_1 narrow_1).before args s = true
def lw_Q (_ : Array Value) (s : State) (o : Outcome) (t : State) : Prop := o = .returned (some (.int 1)) ∧ Framed s o t [] 600384 7289321
def lw_Z (below : List Frame) (a : Array Value) (s : State) : State → Prop := fun t => ∃ o, t.status = .running ∧ Ended t below o ∧ lw_Q a s o t
/-- the law's own end, with 1 on the stack, nothing written that was there before, its room as the claim has it -/
theorem lw_ret {p : Program} {l : Launch} {e : Env} {s : State} {m : MethodId} {below : List Frame} {meth : Method} {c : Code} {b : Nat} (hx : p.tables.exec = Jvm.exec) (hb : c.code = code) (hr : meth.sig.returnType = ret) (hlocks : meth.locks = false) {pc : Nat} {H : Heap} {ls : Array Slot} (hdg : decode code pc = .ok (.ireturn, 1)) : W p l e room_1 s m #[Value.ref b] below meth c H [] 600384 7289321 (lw_Z below #[Value.ref b] s) (F0 m pc ls [.int 1]) := by
  intro T hT X
  obtain ⟨fs, hret, hrun, hended, hW, hframe⟩ := X.leave (v := some (.int 1)) (hlocks := hlocks) (fun h => by rw [hr] at h; cases h)
  have hmeth' : T.vm.method? m = some meth := X.method'
  refine ⟨T.setFrames fs, ?_, .returned (some (.int 1)), hrun, hended, rfl, ⟨_, rfl⟩, hW, hframe⟩
  jvm_step X.here [X.here.top, hx, hb, hdg, hmeth', hr, ret, narrow_b1]
  (try refine ⟨rfl, ?_⟩); (try refine ⟨rfl, ?_⟩)
  first | (intro acts; rw [hret _ acts rfl rfl rfl]) | rw [hret _ _ rfl rfl rfl]
  exact Steps.refl _
/-- what holds at the law's entry: the machine, the code, the tables' words (any of lw_tbl by 'hts w (by decide +kernel)'), the script of L ints xs at the cell b, what the Statement gives of the start (any of its parts by flat_of_before) -/
def lw_At (p : Program) (s : State) (m : MethodId) (meth : Method) (c : Code) (b L : Nat) (xs : Nat → Int32) : Prop :=
  p.tables.exec = Jvm.exec ∧ c.code = code ∧ meth.sig.returnType = ret ∧ c.maxLocals = 7 ∧ s.vm.findClass R_law = some m.cls ∧ (∀ w ∈ lw_tbl, w.before #[Value.ref b] s = true) ∧ va_X b L xs s s.heap ∧ b < s.heap.size ∧ meth.locks = false ∧ (Jvm.Cond.and given_1 narrow_1).before #[Value.ref b] s = true
/-- THE PLAIN LAW: with enough fuel the law's function answers 1 on every script of at most 384 numbers, from the store that the constructors leave -/
def hi_Law : Prop := ∀ (L : Nat) (xs : Nat → Int32), L ≤ 384 → ∃ (n k0 : Nat) (τ : hc_St), 3 * k0 + 28 ≤ 2048 ∧ fm_L_law n k0 L xs hi_s = some (1, τ)
theorem hi_nt {l : Launch} (h : l.flags = flags0) : hc_nt l := by
  unfold hc_nt Launch.stackTraces
  rw [h]
  decide +kernel
theorem hi_rm {s : State} {pl : Platform} {R R' : Room} (h1 : R'.frames ≤ R.frames) (h2 : R'.cells ≤ R.cells) (h3 : R'.slots ≤ R.slots) (h4 : R'.locals ≤ R.locals) (h : s.hasRoom pl R = true) : s.hasRoom pl R' = true := by
  unfold State.hasRoom at h ⊢
  simp only [Bool.and_eq_true, decide_eq_true_eq] at h ⊢
  obtain ⟨⟨⟨⟨a, b1, b2, b3, b4, b5⟩, c⟩, d⟩, e⟩ := h
  exact ⟨⟨⟨⟨by omega, by omega, by omega, by omega, by omega, b5⟩, by omega⟩, by omega⟩, e⟩
theorem hi_room {p : Program} {l : Launch} {e : Env} {R R' : Room} {s : State} {m : MethodId} {args : Array Value} {below : List Frame} {meth : Method} {c : Code} {H : Heap} {locs : List Loc} {cells slots : Nat} {Q : State → Prop} {g : JFrame} (h1 : R'.frames ≤ R.frames) (h2 : R'.cells ≤ R.cells) (h3 : R'.slots ≤ R.slots) (h4 : R'.locals ≤ R.locals) (k : W p l e R' s m args below meth c H locs cells slots Q g) : W p l e R s m args below meth c H locs cells slots Q g :=
  fun T hT X => k T hT ⟨X.admits, X.cas, X.clock, X.frames, hi_rm h1 h2 h3 h4 X.room, X.hears, X.method, X.code, X.here, X.tail, X.warmed, X.limits, X.bytes, X.same⟩
theorem hi_Z {below : List Frame} {b : Nat} {s t : State} {ce se : Nat} {Qx : Outcome → State → Prop} (h : hc_MQ below (fun _ st o t => o = .returned (some (.int 1)) ∧ va_F (fun q => s.heap.size ≤ q) st t) #[Value.ref b] s (fun q => s.heap.size ≤ q) (fun k n => ce + k = 600384 ∧ se + n = 7289321) t) : lw_Z below #[Value.ref b] s t := by
  obtain ⟨o, h1, h2, ⟨ho, -⟩, L, k, n, ⟨hW, hs⟩, ⟨hk, hn⟩, hL⟩ := h
  refine ⟨o, h1, h2, ho, ⟨_, ho⟩, hW, hs.1, hs.2.1, ?_, hs.2.2.2.1, ?_, ?_⟩
  · have := hs.2.2.1; omega
  · have := hs.2.2.2.2.1; omega
  · intro a c hc
    obtain ⟨c', z1, z2, z3, z4⟩ := hs.2.2.2.2.2 a c hc
    refine ⟨c', z1, z2, z3, fun i _ => z4 i (fun hm => ?_)⟩
    have q1 := hL _ hm
    have q2 := (Array.getElem?_eq_some_iff.mp hc).1
    have q1 : s.heap.size ≤ a := q1
    omega
set_option maxHeartbeats 8000000 in
theorem whole_start (hlaw : hi_Law) {p : Program} {e : Env} {s : State} {m : MethodId} {below : List Frame} {meth : Method} {c : Code} (l : Launch) (hnt : hc_nt l) {b L : Nat} {xs : Nat → Int32} (hL : L ≤ 384) (C0 : lw_At p s m meth c b L xs) : W p l e room_1 s m #[Value.ref b] below meth c s.heap [] 0 0 (lw_Z below #[Value.ref b] s) (entryFrame m ([Value.ref b] : List Value).toArray 7) := by
  obtain ⟨hx, hb, hr, hml, hown, hts, hX, hbl, hlk, hgv⟩ := C0
  obtain ⟨n, k0, τ, hk0, hrun⟩ := hlaw L xs hL
  obtain ⟨E, hK, hJ, hN⟩ := hp_start hts hgv
  refine hi_room (R' := { frames := 2048, cells := 600384, slots := 7289321, locals := 94208 }) (by decide) (by decide) (by decide) (by decide) ?_
  refine hc_mono (fun t h => hi_Z (ce := τ.2.2.2.1) (se := τ.2.2.2.2) (Qx := fun _ _ => True) h) ?_
  have hw : ∀ w ∈ lw_all, w.before #[Value.ref b] s = true := fun w h => hts w (lw_all_tbl h)
  have hC : hn_C E code 7 RX0 (some .boolean) 2048 (fun o _ => o = .returned (some (.int 1))) τ.2.2.2.1 τ.2.2.2.2 (l, fun q => s.heap.size ≤ q, fun _ _ => 0, []) (p, l, e, ({ frames := 2048, cells := 600384, slots := 7289321, locals := 94208 } : Room), s, m, #[Value.ref b], below, meth, c, fun q => s.heap.size ≤ q, hc_MQ below (fun _ st o t => o = .returned (some (.int 1)) ∧ va_F (fun q => s.heap.size ≤ q) st t) #[Value.ref b] s (fun q => s.heap.size ≤ q) (fun k n => τ.2.2.2.1 + k = 600384 ∧ τ.2.2.2.2 + n = 7289321), fun _ _ => 0, []) :=
    ⟨hx, hb, hml, hown, hw, hr, hlk, hK, hJ, hN, fun _ h => h, rfl, rfl, trivial, rfl, rfl, rfl, trivial, trivial, hnt⟩
  have key : hn_At E 7 (p, l, e, ({ frames := 2048, cells := 600384, slots := 7289321, locals := 94208 } : Room), s, m, #[Value.ref b], below, meth, c, fun q => s.heap.size ≤ q, hc_MQ below (fun _ st o t => o = .returned (some (.int 1)) ∧ va_F (fun q => s.heap.size ≤ q) st t) #[Value.ref b] s (fun q => s.heap.size ≤ q) (fun k n => τ.2.2.2.1 + k = 600384 ∧ τ.2.2.2.2 + n = 7289321), fun _ _ => 0, []) 0 [(0, .ref b)] [] [] 600384 7289321 := by
    refine hn_new (c9 := 600383) (s9 := 7289303) (ci := 0) (fs := [.null, .null, .null, .null, .null, .null, .null, .null, .null, .null, .null, .int 0, .int 0, .int 0, .int 0, .int 0, .int 0, .int 0]) hC tyX1 dL_law_0 tyX1_ok in_X1 q351 q352 q315 rfl (by decide +kernel) rfl rfl (fun x0 => ?_)
    refine hn_dup hC dL_law_3 rfl ?_
    refine hn_callI hC x0 [] [.ref x0] dL_law_4 q353 q354 q315 q355 np_X1 rfl pd_X1_init (Nat.le_of_ble_eq_true rfl) (by decide) (okX1_init l E (fun q => s.heap.size ≤ q) (2048 - 1) (by decide) x0 _ 600304 6751252 _ _ rfl rfl) rfl (fun r1 => ?_)
    refine hn_astore_n hC dL_law_7 (by decide) ?_
    refine hn_new (c9 := 600303) (s9 := 6751165) (ci := 20) (fs := [.null, .null, .null, .null, .int 0, .null, .int 0, .null, .int 0, .int 0, .int 0, .null, .null, .null, .null, .int 0, .int 0, .int 0, .null, .null, .null, .null, .null, .null, .null, .null, .null, .null, .int 0, .int 0, .int 0, .null, .null, .null, .int 0, .int 0, .int 0, .int 0, .int 0, .null, .null, .null, .int 0, .int 0, .null, .null, .int 0, .int 0, .int 0, .int 0, .int 0, .int 0, .int 0, .int 0, .null, .null, .null, .null, .null, .int 0, .int 0, .null, .int 0, .int 0, .int 0, .int 0, .null, .int 0, .int 0, .int 0, .null, .null, .int 0, .null, .int 0, .null, .null, .int 0, .int 0, .int 0, .int 0, .int 0, .null, .int 0, .null, .null, .int 0]) hC tyX21 dL_law_8 tyX21_ok in_X21 q2750 q2751 q335 rfl (by decide +kernel) rfl rfl (fun x23 => ?_)
    refine hn_dup hC dL_law_11 rfl ?_
    refine hn_callI hC x23 [] [.ref x23] dL_law_12 q2752 q2753 q335 q2754 np_X21 rfl pd_X21_init (Nat.le_of_ble_eq_true rfl) (by decide) (okX21_init l E (fun q => s.heap.size ≤ q) (2048 - 1) (by decide) x23 _ 600260 6020925 _ _ rfl rfl) rfl (fun r2 => ?_)
    refine hn_astore_n hC dL_law_15 (by decide) ?_
    refine hn_iconst (v := 1) hC dL_law_16 rfl ?_
    refine hn_newL (c9 := 600259) (s9 := 6020924) hC 1 dL_law_17 q3759 (by decide) rfl (by decide) rfl rfl (fun q3 => ?_)
    refine hn_astore_n hC dL_law_19 (by decide) ?_
    intro ls H locs k9 n9 hl hR h1 h2
    obtain ⟨hP, hD⟩ := hi_fin x0 x23 q3 r1 r2 hR.1 hR.2.1
    refine hc_mono (Q := hc_MQ below (fun _ st o t => hc_Post hc_V0 (hi_E E x0 x23 q3 r1 r2) (fun q => s.heap.size ≤ q) (hi_am x0 x23 q3 r1 r2) [2, 3, 4, 6, 8, 10, 11, 12, 13, 14, 16, 22] (.inl (some (.int 1))) τ o t ∧ va_F (fun q => s.heap.size ≤ q) st t) #[Value.ref b] s (fun q => s.heap.size ≤ q) (fun k n => τ.2.2.2.1 + k = 600384 ∧ τ.2.2.2.2 + n = 7289321)) (fun t h => ?_) ?_
    · obtain ⟨o, a1, a2, ⟨⟨am, h1, -⟩, hF⟩, rest⟩ := h
      exact ⟨o, a1, a2, ⟨h1, hF⟩, rest⟩
    · have hC2 : hc_C hc_V0 (hi_E E x0 x23 q3 r1 r2) code 7 RX0 (some .boolean) 2048 (.inl (some (.int 1))) τ (l, fun q => s.heap.size ≤ q, hi_am x0 x23 q3 r1 r2, [2, 3, 4, 6, 8, 10, 11, 12, 13, 14, 16, 22]) (p, l, e, ({ frames := 2048, cells := 600384, slots := 7289321, locals := 94208 } : Room), s, m, #[Value.ref b], below, meth, c, fun q => s.heap.size ≤ q, hc_MQ below (fun _ st o t => hc_Post hc_V0 (hi_E E x0 x23 q3 r1 r2) (fun q => s.heap.size ≤ q) (hi_am x0 x23 q3 r1 r2) [2, 3, 4, 6, 8, 10, 11, 12, 13, 14, 16, 22] (.inl (some (.int 1))) τ o t ∧ va_F (fun q => s.heap.size ≤ q) st t) #[Value.ref b] s (fun q => s.heap.size ≤ q) (fun k n => τ.2.2.2.1 + k = 600384 ∧ τ.2.2.2.2 + n = 7289321), hi_am x0 x23 q3 r1 r2, [2, 3, 4, 6, 8, 10, 11, 12, 13, 14, 16, 22]) :=
        ⟨hx, hb, hml, hown, hw, hr, hlk, hK, hJ, hc_V0_st, fun _ h => h, rfl, rfl, hc_G0_nd, rfl, rfl, rfl, rfl, rfl, hnt⟩
      have fin : hc_At hc_V0 (hi_E E x0 x23 q3 r1 r2) 7 (p, l, e, ({ frames := 2048, cells := 600384, slots := 7289321, locals := 94208 } : Room), s, m, #[Value.ref b], below, meth, c, fun q => s.heap.size ≤ q, hc_MQ below (fun _ st o t => hc_Post hc_V0 (hi_E E x0 x23 q3 r1 r2) (fun q => s.heap.size ≤ q) (hi_am x0 x23 q3 r1 r2) [2, 3, 4, 6, 8, 10, 11, 12, 13, 14, 16, 22] (.inl (some (.int 1))) τ o t ∧ va_F (fun q => s.heap.size ≤ q) st t) #[Value.ref b] s (fun q => s.heap.size ≤ q) (fun k n => τ.2.2.2.1 + k = 600384 ∧ τ.2.2.2.2 + n = 7289321), hi_am x0 x23 q3 r1 r2, [2, 3, 4, 6, 8, 10, 11, 12, 13, 14, 16, 22]) 20 [(0, .ref b), (1, .ref x0), (2, .ref x23), (3, .ref q3)] [] hi_s (hi_am x0 x23 q3 r1 r2) [] := by
        refine hr_iconst (v := 0) hC2 dL_law_20 rfl ?_
        refine hr_istore hC2 dL_law_21 (by decide) ?_
        exact hr_sub _ rfl (ll_L_law_23 (A := fun q => s.heap.size ≤ q) (am := hi_am x0 x23 q3 r1 r2) (l := l) (E := hi_E E x0 x23 q3 r1 r2) (d := 2048) n k0 L xs hk0 hX hbl (fun z => by have z : s.heap.size ≤ b := z; omega) n hi_s 0 (1, τ) hrun hC2 (hi_am x0 x23 q3 r1 r2))
      exact hr_sub _ rfl fin ls H locs k9 n9 hl ⟨hP, hD, hR.2.2, fun _ _ _ => rfl⟩ h1 h2
  have hl := lv_entry ([Value.ref b] : List Value) (n := 7) (Nat.le_of_ble_eq_true rfl)
  rw [lg_entry_eq]
  exact key _ s.heap [] 0 0 hl ⟨fun _ _ h => by simp at h, ⟨fun _ _ _ _ h => by simp at h, fun _ _ h => by simp at h⟩, va_S.rf⟩ rfl rfl
set_option maxHeartbeats 4000000 in
theorem lw_walk (hlaw : hi_Law) (l : Launch) (hnt : hc_nt l) (b : Addr) (xs : List Int32) : MetFree l x (headSpec (Jvm.Cond.code x code maxLocals ret :: tables_1) room_1) (lw_P b xs) (fun _ _ _ _ _ => True) lw_Q := by
  refine MetFree.of_bodyS (code := code) (maxLocals := maxLocals) (ret := ret) (by decide) ?_ ?_
  · intro args s m h hn
    obtain ⟨meth, c, h1, h2, h3, h4, h5, h6, -, -⟩ := Cond.code_spec hn (atoms_spec (ws := Jvm.Cond.code x code maxLocals ret :: tables_1) h _ List.mem_cons_self)
    exact ⟨meth, c, h1, h2, h3, h4, h5, h6⟩
  · intro p e s m args below meth c s₁ B hml0 hP _
    obtain ⟨rfl, hx, hbd, hgv⟩ := hP
    obtain ⟨scr, harrAt, hlist, hof, hsmall⟩ := hx
    obtain ⟨hcb, hkn, -, -⟩ := State.arrayAt?_spec harrAt
    have hown : s.vm.findClass R_law = some m.cls := findClass_of_methodNamed B.named
    have hts0 : ∀ c ∈ (Jvm.Cond.code x code maxLocals ret :: tables_1), c.before #[Value.ref b] s = true := atoms_spec (ws := Jvm.Cond.code x code maxLocals ret :: tables_1) B.pre
    have hts : ∀ w ∈ lw_tbl, w.before #[Value.ref b] s = true := k2_hts_sels lw_privs (fun w hw => hts0 w (List.mem_cons_of_mem _ hw)) lw_privs_ok
    have hml : c.maxLocals = 7 := B.maxLocals_eq (hts0 _ List.mem_cons_self)
    have X₀ : Stand p l e room_1 s m #[Value.ref b] below meth c s₁ [] 0 0 := Stand.of_body B
    have hh0 : s₁.heap = s.heap := by rw [B.state]; rfl
    have hsz : scr.slots.size = xs.length := by rw [← Array.length_toList, hlist, List.length_map]
    have hval : ∀ j : Nat, j < xs.length → scr.slots[j]? = some (.int (xs.getD j 0)) := fun j hj => by
      rw [← Array.getElem?_toList, hlist]
      simp [hj]
    have hbl : b < s.heap.size := (Array.getElem?_eq_some_iff.mp hcb).1
    have hX : va_X b xs.length (fun j => xs.getD j 0) s s.heap := ⟨scr, hcb, hof, hkn, hsz, hval⟩
    have K : W p l e room_1 s m #[Value.ref b] below meth c s₁.heap [] 0 0 (lw_Z below #[Value.ref b] s) (entryFrame m ([Value.ref b] : List Value).toArray 7) := by
      rw [hh0]
      exact whole_start hlaw l hnt hbd ⟨B.exec, B.bytes, B.returns, hml, hown, hts, hX, hbl, B.notSynchronized, hgv⟩
    obtain ⟨t, a1, o, b1, b2, b3⟩ := K s₁ rfl X₀
    exact ⟨t, o, a1, b1, b2, b3⟩
theorem lw_pre_spec {args : Array Value} {s : State} (h : (Jvm.Cond.and given_1 narrow_1).before args s = true) (hr : rest_1_c.before args s = true) : ∃ (b : Addr) (xs : List Int32), lw_P b xs args s := by
  have hs := flat_of_before _ h
  have hq := flat_of_before _ hr
  have hc : (Cond.count 1).before args s = true := hs _ (by decide +kernel)
  have harr : (Cond.arrayOf (.arg 0) .int).before args s = true := hs _ (by decide +kernel)
  have hle : (Cond.le (.length (.arg 0)) (.int 384)).before args s = true := hs _ (by decide +kernel)
  have hlen : (Cond.isInt (.length (.arg 0))).before args s = true := hq _ (by decide +kernel)
  have hall : (Cond.all (.arg 0) (.isInt (.elem (.arg 0) (.index 0)))).before args s = true := hq _ (by decide +kernel)
  obtain ⟨b, xs, hb, hx⟩ := State.ints_of_pre rfl harr hlen hall
  have hsm : xs.length < 2 ^ 31 := hx.choose_spec.2.2.2
  have hev : (Term.length (.arg 0)).eval args s none [] s = some (.int xs.length.toInt32) := hx.length_eval hb
  have hv := Cond.le_ints hev (show (Term.int 384).eval args s none [] s = some (.int 384) from rfl)
  have hd : xs.length.toInt32 ≤ 384 := by
    simpa [Cond.before, Cond.holds, hv] using hle
  have hN : xs.length ≤ 384 := (Int32.ofNat_le_ofNat hsm (by decide)).mp (show Int32.ofNat xs.length ≤ Int32.ofNat 384 from hd)
  exact ⟨b, xs, Cond.one_arg hc (show args[0]? = some (.ref b) from hb), hx, hN, h⟩
theorem lw_comes (hlaw : hi_Law) (l : Launch) (hnt : hc_nt l) : Comes l x (Jvm.Cond.code x code maxLocals ret :: tables_1) room_1 (fun tb e args s => Calls_1 tb e args s ∧ rest_1 tb e args s ∧ Pre_1 tb e args s)
    (fun _ _ args s o t => lw_Q args s o t) := by
  intro p e ha hc hk s m args below hf hfit hheap happ hpre
  obtain ⟨b, xs, hP⟩ := lw_pre_spec hpre.2.2 hpre.2.1
  obtain ⟨k, o, h1, h2, h3, hQ⟩ := lw_walk hlaw l hnt b xs p e ha hc hk s m args below hf ((Spec.applies_iff_loose hf).mp happ).1 hP trivial
  exact ⟨k, o, h1, h2, h3, hQ⟩
theorem lw_frame {s t : State} {o : Outcome} {args : Array Value} (h : Framed s o t [] 600384 7289321) :
    Framed s o t (fieldLocs frame_1_writes args s ++ arrayLocs frame_1_arrays args s ++ staticLocs frame_1_statics s) 600384 7289321 := h
theorem lw_limb (hlaw : hi_Law) (L : Cond) (hL : ∀ (args : Array Value) (s t : State), L.after args s (.returned (some (.int 1))) t = true) :
    ArmFor flags0 classFile x code maxLocals ret World_1 tables_1 room_1 Calls_1 rest_1 Pre_1
      (fun tb e a s o t => postC L tb e a s o t ∧ Framed s o t (fieldLocs frame_1_writes a s ++ arrayLocs frame_1_arrays a s ++ staticLocs frame_1_statics s) 600384 7289321) := by
  intro l hfl _ _ p e ha hc hk s m args below hf hfit hheap happ hpre
  obtain ⟨k, o, h1, h2, h3, rfl, hF⟩ := lw_comes hlaw l (hi_nt hfl) p e ha hc hk s m args below hf hfit hheap happ hpre
  exact ⟨k, _, h1, h2, h3, hL args s _, lw_frame hF⟩
theorem i_vc_open (hlaw : hi_Law) : Claimed_1_1 ∧ Claimed_1_2 := ⟨lw_limb hlaw limb_1_1 (fun args s t => by simp [limb_1_1, Cond.after, Cond.holds, Cond.value]), lw_limb hlaw limb_1_2 (fun args s t => Cond.after_iff.mpr (by
  first | (rw [show limb_1_2 = Cond.eq .result (.int 1) from rfl, Cond.eq_ints (x := 1) (y := 1) rfl rfl]; simp; done) | (simp [limb_1_2, Cond.value, Term.eval]; done)))⟩
