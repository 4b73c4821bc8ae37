/-! ===== exceptions ===== -/
theorem hx_l0 {p : Cond → Prop} : ∀ k ∈ ([] : List Cond), p k := fun _ h => by cases h
theorem hx_l1 {p : Cond → Prop} {a : Cond} {l : List Cond} (h : p a) (hl : ∀ k ∈ l, p k) : ∀ k ∈ a :: l, p k := List.forall_mem_cons.mpr ⟨h, hl⟩
theorem hx_th {E : hc_E} {A : Nat → Prop} {args : Array Value} {s : State} (hts : ∀ w ∈ lw_all, w.before args s = true) (hJ : hc_J0 E A s s.heap) : ∀ a ∈ Bundle.throwableAtoms, a.before args s = true := (hx_l1 (hts _ q336) (hx_l1 (hts _ q1292) (hx_l1 (hts _ q1301) (hx_l1 (hts _ q1307) (hx_l1 (hts _ q1310) (hx_l1 (hts _ q1312) (hx_l1 (hts _ q1293) (hx_l1 (hts _ q1294) (hx_l1 (hts _ q357) (hx_l1 (hts _ q358) (hx_l1 (hts _ q1295) (hx_l1 (hts _ q1300) (hx_l1 (hts _ q1308) (hx_l1 (hts _ q1325) (hx_l1 (hts _ q1282) (hx_l1 (hts _ q1326) (hx_l1 (hts _ q1284) (hx_l1 (hts _ q1327) (hx_l1 (hts _ q1286) (hx_l1 (hts _ q1296) (hx_l1 (hJ.2.2.2.2.1.lays) (hx_l1 (hts _ q1298) (hx_l1 (hJ.2.2.2.2.2.1.lays) (hx_l1 (hts _ q1288) hx_l0))))))))))))))))))))))))
theorem hx_at1 {E : hc_E} {A : Nat → Prop} {args : Array Value} {s : State} {own : String} {ic : Nat} (hts : ∀ w ∈ lw_all, w.before args s = true) (hJ : hc_J0 E A s s.heap) (hm : Cond.methodLink own ic ⟨"java/lang/IllegalArgumentException", "<init>", "()V"⟩ ∈ lw_all) : ∀ a ∈ Bundle.ownAtoms0 own ic "java/lang/IllegalArgumentException" ["java/lang/RuntimeException", "java/lang/Exception"], a.before args s = true := by
  refine List.forall_mem_append.mpr ⟨List.forall_mem_append.mpr ⟨hx_th hts hJ, ?_⟩, ?_⟩
  · exact (hx_l1 (hts _ q1314) (hx_l1 (hts _ q1315) (hx_l1 (hts _ q1316) (hx_l1 (hts _ q1317) (hx_l1 (va_Nw.use rfl (hJ.2.2.2.2.2.2.2.1 _ (List.mem_of_getElem? (i := 6) rfl))) (hx_l1 (hts _ q1317) (hx_l1 (hts _ q1318) (hx_l1 (hts _ q1319) (hx_l1 (hts _ q1320) (hx_l1 (va_Nw.use rfl (hJ.2.2.2.2.2.2.2.1 _ (List.mem_of_getElem? (i := 2) rfl))) (hx_l1 (hts _ q1320) (hx_l1 (hts _ q1321) (hx_l1 (hts _ q1322) (hx_l1 (hts _ q1293) (hx_l1 (va_Nw.use rfl (hJ.2.2.2.2.2.2.2.1 _ (List.mem_of_getElem? (i := 0) rfl))) hx_l0)))))))))))))))
  · exact (hx_l1 (hts _ hm) (hx_l1 (hts _ q1271) (hx_l1 (va_Nw.use rfl (hJ.2.2.2.2.2.2.1 1)) (hx_l1 (hts _ q1279) (hx_l1 (hts _ q1280) (hx_l1 (hts _ q1281) (hx_l1 (hts _ q1283) (hx_l1 (hts _ q1285) (hx_l1 (hts _ q1287) (hx_l1 hJ.2.2.2.2.1.isRef (hx_l1 hJ.2.2.2.2.2.1.isRef (hx_l1 (hts _ q1323) (hx_l1 (hts _ q1290) (hx_l1 (hts _ q1289) hx_l0))))))))))))))
theorem hx_at2 {E : hc_E} {A : Nat → Prop} {args : Array Value} {s : State} {own : String} {ic : Nat} (hts : ∀ w ∈ lw_all, w.before args s = true) (hJ : hc_J0 E A s s.heap) (hm : Cond.methodLink own ic ⟨"java/lang/IllegalStateException", "<init>", "()V"⟩ ∈ lw_all) : ∀ a ∈ Bundle.ownAtoms0 own ic "java/lang/IllegalStateException" ["java/lang/RuntimeException", "java/lang/Exception"], a.before args s = true := by
  refine List.forall_mem_append.mpr ⟨List.forall_mem_append.mpr ⟨hx_th hts hJ, ?_⟩, ?_⟩
  · exact (hx_l1 (hts _ q2391) (hx_l1 (hts _ q2392) (hx_l1 (hts _ q2393) (hx_l1 (hts _ q1317) (hx_l1 (va_Nw.use rfl (hJ.2.2.2.2.2.2.2.1 _ (List.mem_of_getElem? (i := 6) rfl))) (hx_l1 (hts _ q1317) (hx_l1 (hts _ q1318) (hx_l1 (hts _ q1319) (hx_l1 (hts _ q1320) (hx_l1 (va_Nw.use rfl (hJ.2.2.2.2.2.2.2.1 _ (List.mem_of_getElem? (i := 2) rfl))) (hx_l1 (hts _ q1320) (hx_l1 (hts _ q1321) (hx_l1 (hts _ q1322) (hx_l1 (hts _ q1293) (hx_l1 (va_Nw.use rfl (hJ.2.2.2.2.2.2.2.1 _ (List.mem_of_getElem? (i := 0) rfl))) hx_l0)))))))))))))))
  · exact (hx_l1 (hts _ hm) (hx_l1 (hts _ q2382) (hx_l1 (va_Nw.use rfl (hJ.2.2.2.2.2.2.1 2)) (hx_l1 (hts _ q2384) (hx_l1 (hts _ q1305) (hx_l1 (hts _ q2385) (hx_l1 (hts _ q2386) (hx_l1 (hts _ q2387) (hx_l1 (hts _ q2388) (hx_l1 hJ.2.2.2.2.1.isRef (hx_l1 hJ.2.2.2.2.2.1.isRef (hx_l1 (hts _ q1323) (hx_l1 (hts _ q1290) (hx_l1 (hts _ q2389) hx_l0))))))))))))))
theorem hx_at3 {E : hc_E} {A : Nat → Prop} {args : Array Value} {s : State} {own : String} {ic : Nat} (hts : ∀ w ∈ lw_all, w.before args s = true) (hJ : hc_J0 E A s s.heap) (hm : Cond.methodLink own ic ⟨"java/lang/IndexOutOfBoundsException", "<init>", "()V"⟩ ∈ lw_all) : ∀ a ∈ Bundle.ownAtoms0 own ic "java/lang/IndexOutOfBoundsException" ["java/lang/RuntimeException", "java/lang/Exception"], a.before args s = true := by
  refine List.forall_mem_append.mpr ⟨List.forall_mem_append.mpr ⟨hx_th hts hJ, ?_⟩, ?_⟩
  · exact (hx_l1 (hts _ q2723) (hx_l1 (hts _ q2724) (hx_l1 (hts _ q2725) (hx_l1 (hts _ q1317) (hx_l1 (va_Nw.use rfl (hJ.2.2.2.2.2.2.2.1 _ (List.mem_of_getElem? (i := 6) rfl))) (hx_l1 (hts _ q1317) (hx_l1 (hts _ q1318) (hx_l1 (hts _ q1319) (hx_l1 (hts _ q1320) (hx_l1 (va_Nw.use rfl (hJ.2.2.2.2.2.2.2.1 _ (List.mem_of_getElem? (i := 2) rfl))) (hx_l1 (hts _ q1320) (hx_l1 (hts _ q1321) (hx_l1 (hts _ q1322) (hx_l1 (hts _ q1293) (hx_l1 (va_Nw.use rfl (hJ.2.2.2.2.2.2.2.1 _ (List.mem_of_getElem? (i := 0) rfl))) hx_l0)))))))))))))))
  · exact (hx_l1 (hts _ hm) (hx_l1 (hts _ q2714) (hx_l1 (va_Nw.use rfl (hJ.2.2.2.2.2.2.1 3)) (hx_l1 (hts _ q2716) (hx_l1 (hts _ q1306) (hx_l1 (hts _ q2717) (hx_l1 (hts _ q2718) (hx_l1 (hts _ q2719) (hx_l1 (hts _ q2720) (hx_l1 hJ.2.2.2.2.1.isRef (hx_l1 hJ.2.2.2.2.2.1.isRef (hx_l1 (hts _ q1323) (hx_l1 (hts _ q1290) (hx_l1 (hts _ q2721) hx_l0))))))))))))))
theorem hx_at4 {E : hc_E} {A : Nat → Prop} {args : Array Value} {s : State} {own : String} {ic : Nat} (hts : ∀ w ∈ lw_all, w.before args s = true) (hJ : hc_J0 E A s s.heap) (hm : Cond.methodLink own ic ⟨"java/lang/ArithmeticException", "<init>", "()V"⟩ ∈ lw_all) : ∀ a ∈ Bundle.ownAtoms0 own ic "java/lang/ArithmeticException" ["java/lang/RuntimeException", "java/lang/Exception"], a.before args s = true := by
  refine List.forall_mem_append.mpr ⟨List.forall_mem_append.mpr ⟨hx_th hts hJ, ?_⟩, ?_⟩
  · exact (hx_l1 (hts _ q2456) (hx_l1 (hts _ q2457) (hx_l1 (hts _ q2458) (hx_l1 (hts _ q1317) (hx_l1 (va_Nw.use rfl (hJ.2.2.2.2.2.2.2.1 _ (List.mem_of_getElem? (i := 6) rfl))) (hx_l1 (hts _ q1317) (hx_l1 (hts _ q1318) (hx_l1 (hts _ q1319) (hx_l1 (hts _ q1320) (hx_l1 (va_Nw.use rfl (hJ.2.2.2.2.2.2.2.1 _ (List.mem_of_getElem? (i := 2) rfl))) (hx_l1 (hts _ q1320) (hx_l1 (hts _ q1321) (hx_l1 (hts _ q1322) (hx_l1 (hts _ q1293) (hx_l1 (va_Nw.use rfl (hJ.2.2.2.2.2.2.2.1 _ (List.mem_of_getElem? (i := 0) rfl))) hx_l0)))))))))))))))
  · exact (hx_l1 (hts _ hm) (hx_l1 (hts _ q2424) (hx_l1 (va_Nw.use rfl (hJ.2.2.2.2.2.2.1 4)) (hx_l1 (hts _ q2444) (hx_l1 (hts _ q1303) (hx_l1 (hts _ q2438) (hx_l1 (hts _ q2439) (hx_l1 (hts _ q2441) (hx_l1 (hts _ q2437) (hx_l1 hJ.2.2.2.2.1.isRef (hx_l1 hJ.2.2.2.2.2.1.isRef (hx_l1 (hts _ q1323) (hx_l1 (hts _ q1290) (hx_l1 (hts _ q2436) hx_l0))))))))))))))
section HXW
variable {p : Program} {l : Launch} {e : Env} {R : Room} {s : State} {m : MethodId} {args : Array Value} {below : List Frame} {meth : Method} {c : Code} {H : Heap} {cells slots : Nat}
/-- new X; dup; X.<init>(); athrow, nothing written so far: X leaves the method -/
theorem hx_W {cc : ByteArray} {own cls : String} {names : List String} {ia ic pc nL : Nat} {Qc : Array Value → State → Outcome → State → Prop} {free : Addr → Prop} {K : Nat → Nat → Prop} {ls : Array Slot} (hx : p.tables.exec = Jvm.exec) (hb : c.code = cc) (hml : c.maxLocals = nL) (hlocks : meth.locks = false) (hem : c.exceptionTable.isEmpty = true) (hnt : l.stackTraces = false) (hown : s.vm.findClass own = some m.cls)
    (hcl : (Cond.classLink own ia cls).before args s = true) (hins : (Cond.instantiable cls 6).before args s = true) (hini : (Cond.initialized cls).before args s = true) (hat : ∀ a ∈ Bundle.ownAtoms0 own ic cls names, a.before args s = true) (hfit : Bundle.fit cls = true) (hnames : ∀ n ∈ names, Bundle.fit n = true)
    (d0 : decode cc pc = .ok (.new ia, 3)) (d3 : decode cc (pc + 3) = .ok (.dup, 1)) (d4 : decode cc (pc + 4) = .ok (.invokespecial ic, 3)) (d7 : decode cc (pc + 7) = .ok (.athrow, 1)) (hls : ls.size = nL) (hc : cells + 1 ≤ R.cells) (hs : slots + 6 ≤ R.slots) (hfr : names.length + 3 < R.frames) (hlo : 13 * (names.length + 1) + 42 ≤ R.locals) (hK : K (cells + 1) (slots + 6))
    (hq : ∀ (U : State) (a : Nat), (∃ cell : Cell, U.heap[a]? = some cell ∧ cell.vm = .none ∧ U.vm.findClass cls = some cell.cls) → (∀ (q : Nat) (z : Cell), s.heap[q]? = some z → U.heap[q]? = some z) → s.heap.size ≤ U.heap.size → Qc args s (.threw a) U) :
    W p l e R s m args below meth c H [] cells slots (hc_MQ below Qc args s free K) (F0 m pc ls []) := by
  intro T hT X
  have htr : e.platform.stackTraces = false := by rw [X.admits.platform]; exact hnt
  obtain ⟨vm', cC, kC, hfc, hkC, -, -, X1, st1⟩ := X.newCold hx hown hcl hins hini (g := F0 m pc ls []) rfl (by rw [hb]; exact d0) hc hs
  have hn : c.exceptionTable.toList = [] := List.eq_nil_of_length_eq_zero (by simpa [Array.isEmpty] using hem)
  have hsz : s.heap.size ≤ T.heap.size := X.same.2.1
  have hW : W p l e R s m args below meth c ((T.setVm vm').pushCell { cls := cC, slots := kC.instanceTypes.map defaultValue, vm := .none }).heap [] (cells + 1) (slots + 6) (hc_MQ below Qc args s free K) (F0 m (pc + 3) ls [.ref T.heap.size]) := by
    refine lv_dup hx hb d3 rfl ?_
    intro T2 hT2 X2
    have hcell : T2.heap[T.heap.size]? = some (freshCell cC kC) := by
      rw [hT2]
      show (T.heap.push _)[T.heap.size]? = _
      simp [freshCell]
    obtain ⟨U, z1, z2, z3, z4, z5, ce, z6, z7⟩ := X2.ctorThrow0 hx htr hown hfit hnames hat (fun x hx => by cases hx) hfc hkC hcell hsz (g := F0 m (pc + 3 + 1) ls [.ref T.heap.size, .ref T.heap.size]) rfl (by rw [hml]; exact hls) rfl rfl (rest := []) rfl (by rw [hb]; exact d4) (by rw [hb]; exact d7) (by rw [hn]; intro x hx; cases hx) hfr (by show 2 * 0 + 1 + _ ≤ _; omega) hlocks
    refine ⟨U, z1, .threw T.heap.size, z2, z3, hq U _ ⟨ce, z6, z7.vm, by rw [z4.alike.findClass]; exact z7.cls⟩ (fun q z hz => z5.old_cell hz) z5.2.1, [], cells + 1, slots + 6, ⟨z4, z5⟩, hK, fun q hq => by cases hq⟩
  obtain ⟨t, a1, b1⟩ := hW _ rfl X1
  exact ⟨t, st1 t a1, b1⟩
end HXW
theorem hc_atKept {D : va_G} {cl : List vw_C} {z : Nat × va_E} {H H1 : Heap} (hold : ∀ (q : Nat) (c : Cell), H[q]? = some c → H1[q]? = some c) (h : va_at D cl z H) : va_at D cl z H1 := by
  unfold va_at at h ⊢
  split
  · rename_i a he
    rw [he] at h
    exact hold _ _ h
  · rename_i o he
    rw [he] at h
    obtain ⟨r, h1, cell, h2, h3⟩ := h
    exact ⟨r, h1, cell, hold _ _ h2, h3⟩
/-- a contract of a method that writes nothing -/
def hc_N0 (l : Launch) (y : MethodName) (ws : List Cond) (d : Nat) (E : hc_E) (A : Nat → Prop) (a : List Value) (am : Nat → Nat → Nat) (σ : hc_St) (oc : hc_Oc) (σ' : hc_St) : Prop :=
  hc_nt l → hc_Mt l y ws ({ frames := d, cells := σ.2.2.2.1, slots := σ.2.2.2.2, locals := 46 * d } : Room) (fun ar U => ar = a.toArray ∧ hc_Pre hc_V0 E A am σ U) (fun _ st o t => hc_Post hc_V0 E A am [] oc σ' o t ∧ va_F A st t) (fun _ => False) (fun k n => σ'.2.2.2.1 + k = σ.2.2.2.1 ∧ σ'.2.2.2.2 + n = σ.2.2.2.2)
theorem hc_N0.M {l : Launch} {y : MethodName} {ws : List Cond} {d : Nat} {E : hc_E} {A : Nat → Prop} {a : List Value} {am : Nat → Nat → Nat} {σ : hc_St} {oc : hc_Oc} {σ' : hc_St} (h : hc_N0 l y ws d E A a am σ oc σ') : hc_M l hc_V0 y ws d E A a am [] σ oc σ' := by
  intro hnt
  refine MetFree.mono (h hnt) (fun _ _ q => q) (fun _ _ _ _ _ q => q) (fun a s o t _ q => ?_)
  obtain ⟨q1, L, k, n, q2, q3, q4⟩ := q
  exact ⟨q1, L, k, n, q2, q3, fun z hz => (q4 z hz).elim⟩
/-- if (x) return; throw new X() -/
theorem hx_need {l : Launch} {E : hc_E} {A : Nat → Prop} {d ia ic nL k : Nat} {y : MethodName} {cc : ByteArray} {own : String} {a : List Value} (lv0 : List (Nat × Value)) {x : Int32} {i : Fin 4} (hd : 13 ≤ d) (hy : plainName own = true) (hown : y.cls = own) (hlv : lv_args 0 a = lv0) (hle : (lg_sl a).length ≤ nL) (hi : hc_look lv0 (i : Nat) = some (.int x))
    (hlc : Cond.classLink own ia (hc_xn k) ∈ lw_all) (hins : Cond.instantiable (hc_xn k) 6 ∈ lw_all) (hini : Cond.initialized (hc_xn k) ∈ lw_all) (hat : ∀ {A : Nat → Prop} {args : Array Value} {s : State}, (∀ w ∈ lw_all, w.before args s = true) → hc_J0 E A s s.heap → ∀ a ∈ Bundle.ownAtoms0 own ic (hc_xn k) ["java/lang/RuntimeException", "java/lang/Exception"], a.before args s = true) (hfit : Bundle.fit (hc_xn k) = true) (hk0 : ¬ k = 0)
    (d0 : decode cc 0 = .ok (.iload_n i, 1)) (d1 : decode cc 1 = .ok (.ifCond .ne 11, 3)) (d4 : decode cc 4 = .ok (.new ia, 3)) (d7 : decode cc 7 = .ok (.dup, 1)) (d8 : decode cc 8 = .ok (.invokespecial ic, 3)) (d11 : decode cc 11 = .ok (.athrow, 1)) (d12 : decode cc 12 = .ok (.return_, 1)) {σ : hc_St} {r : Nat × Int32 × hc_St} (h : (if x = 0 then (hk (hxr σ) <| some (k, 0, pU σ hxC hxS)) else some (0, 0, σ)) = some r) (am : Nat → Nat → Nat) : hc_N0 l y (ws_ y cc nL none) d E A a am σ (hc_ot (fun _ => none) r) r.2.2 := by
  intro hnt
  refine hc_ofW (cc := cc) (maxL := nL) (ret := none) (by rw [hown]; exact hy) rfl ?_
  intro p e s m args below meth c s₁ B hml hem hv
  obtain ⟨rfl, hP, hD, hK, hJ, hA⟩ := hv
  have hx := B.exec
  have hb := B.bytes
  have hr := B.returns
  have hts := atoms_spec (ws := ws_ y cc nL none) B.pre
  have hts : ∀ w ∈ lw_all, w.before _ s = true := fun w h => hts w (List.mem_cons_of_mem _ h)
  have hfc : s.vm.findClass own = some m.cls := by rw [← hown]; exact findClass_of_methodNamed B.named
  have hlocks := B.notSynchronized
  have hl := lv_entry a (n := nL) hle
  rw [hlv] at hl
  rw [lg_entry_eq]
  generalize (lg_sl a ++ List.replicate (nL - (lg_sl a).length) Slot.unset).toArray = ls at hl ⊢
  refine lv_iload_n hx hb d0 rfl (hc_has hl hi) ?_
  refine lv_if_ne (tgt := 12) hx hb d1 (by decide) (fun z => ?_) (fun z => ?_)
  · rw [if_neg z] at h
    obtain rfl := Option.some.inj h
    refine hc_ofMQ ⟨rfl, rfl⟩ ?_
    exact W.vret hx hb hr (fun t ht hW => ⟨⟨am, rfl, by rw [ht]; exact hP, hD, fun _ _ _ => rfl⟩, by rw [ht]; exact Nat.le_refl _, fun q h1 h2 => by rw [ht]⟩) (fun q hq => by cases hq) d12 hlocks
  · rw [if_pos z] at h
    obtain ⟨hc, h⟩ := hk_ok h
    obtain rfl := Option.some.inj h
    have hc := Bool.and_eq_true_iff.mp hc
    have hc1 : 1 ≤ σ.2.2.2.1 := of_decide_eq_true hc.1
    have hc2 : 6 ≤ σ.2.2.2.2 := of_decide_eq_true hc.2
    refine hx_W (cls := hc_xn k) (names := ["java/lang/RuntimeException", "java/lang/Exception"]) hx hb hml hlocks hem hnt hfc (hts _ hlc) (hts _ hins) (hts _ hini) (hat hts hJ) hfit (by decide +kernel) d4 d7 d8 d11 hl.1 (by show 0 + 1 ≤ σ.2.2.2.1; omega) (by show 0 + 6 ≤ σ.2.2.2.2; omega) (by show 2 + 3 < d; omega) (by show 13 * 3 + 42 ≤ 46 * d; omega) ⟨?_, ?_⟩ (fun U b hcell hold hsz => ?_)
    · show σ.2.2.2.1 - 1 + (0 + 1) = σ.2.2.2.1; omega
    · show σ.2.2.2.2 - 6 + (0 + 6) = σ.2.2.2.2; omega
    · obtain ⟨cell, u1, u2, u3⟩ := hcell
      refine ⟨⟨am, ?_, ?_, hD, fun _ _ _ => rfl⟩, hsz, fun q h1 h2 => ?_⟩
      · show hc_oc (hc_ot _ _) _ _
        rw [hc_ot, if_neg hk0]
        exact ⟨b, rfl, cell, u1, by rw [u2]; decide, by rw [u2]; rfl, u3⟩
      · intro j z hz
        have := hP j z hz
        exact hc_atKept hold this
      · obtain ⟨w, hw⟩ : ∃ w, s.heap[q]? = some w := ⟨_, Array.getElem?_eq_getElem h1⟩
        rw [hold q w hw, hw]
