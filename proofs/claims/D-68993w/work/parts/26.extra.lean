/-! ===== Math, copies, Strings, exceptions ===== -/
def jmax (x y : Int32) : Int32 := if x < y then y else x
def jmin (x y : Int32) : Int32 := if y < x then y else x
/-- the Strings: an index, its length, its characters, whether two are the same -/
def sTx (s : Int32) : List Int32 := hs_L.getD s.toNatClampNeg []
def hsi (s : Int32) : Bool := inb s hs_L.length
def sLen (s : Int32) : Int32 := nI (sTx s).length
def sCh (s i : Int32) : Int32 := (sTx s).getD i.toNatClampNeg 0
def hsc (s i : Int32) : Bool := hsi s && inb i (sTx s).length
def sEq (s t : Int32) : Int32 := if sTx s = sTx t then 1 else 0
/-- room for an exception -/
def hxC : Nat := 1
def hxS : Nat := 6
def hxr (σ : hc_St) : Bool := decide (hxC ≤ σ.2.2.2.1) && decide (hxS ≤ σ.2.2.2.2)
theorem hc_ldcw {p : Program} {l : Launch} {e : Env} {R : Room} {s : State} {m : MethodId} {args : Array Value} {below : List Frame} {meth : Method} {c : Code} {T : State} {locs : List Loc} {cells slots : Nat}
    (X : Stand p l e R s m args below meth c T locs cells slots) (hexec : p.tables.exec = Jvm.exec) {own text : String} {index : Nat} {a : Addr} (hown : s.vm.findClass own = some m.cls)
    (hconst : (Cond.stringRef own index text).before args s = true) (hev : (Term.string own index).eval args s none [] s = some (.ref a)) {g : JFrame} (hg : g.method = m) (hdg : decode c.code g.pc = .ok (.ldc_w index, 3)) :
    ∀ target, Steps p.tables e below (T.setTop { g with pc := g.pc + 3, stack := .ref a :: g.stack }) target → Steps p.tables e below (T.setTop g) target := by
  obtain ⟨k, cf, i, a', hk, hcf, hcp, -, hr, hev'⟩ := Cond.stringRef_spec hown hconst
  cases hev.symm.trans hev'
  obtain ⟨k', hk', he⟩ := X.warmed.alike.2.2 _ _ hk
  have hr' : k'.resolved[index]? = some (some (.string a)) := by
    rcases X.warmed.entry hk hk' index with h | ⟨h, -⟩
    · rw [h]; exact hr
    · rw [hr] at h; cases h
  intro target hrest
  subst hg
  jvm_step X.here [hexec, hdg, ldc_w.wp_string (e := e) (s := T) (f := g) X.here.top hk' (by rw [he]; exact hcf) hcp hr']
  exact hrest
section HCZ
variable {E : hc_E} {cc : ByteArray} {nL d pc : Nat} {own : String} {ret : Option FieldType} {oc : hc_Oc} {σe : hc_St} {Y : hc_Y} {X : hc_X} {lv lv' : List (Nat × Value)} {st : List Value} {σ : hc_St} {am : Nat → Nat → Nat} {tm : hc_T} {C : String} {T : u_T} {N idx o f : Nat}
theorem hr_max (hC : hc_C hc_V0 E cc nL own ret d oc σe Y X) {x y : Int32} (hd : decode cc pc = .ok (.invokestatic idx, 3)) (hlk : Cond.methodLink own idx Lib.Math.max.name ∈ lw_all) (hd1 : 1 ≤ d) (hw : (st.map fun v => v.category).sum ≤ 33) (k : hc_At hc_V0 E nL X (pc + 3) lv (.int (jmax x y) :: st) σ am tm) : hc_At hc_V0 E nL X pc lv (.int y :: .int x :: st) σ am tm := by
  intro ls H locs k9 n9 hl hR h1 h2
  have hfr := hC.2.2.2.2.2.2.2.2.2.2.2.1
  have hlo := hC.2.2.2.2.2.2.2.2.2.2.2.2.1
  exact va_mmax hC.1 hC.2.1 (by rw [hC.2.2.1]; exact hl.1.symm) hC.2.2.2.1 (hC.2.2.2.2.1 _ hlk) (hC.2.2.2.2.1 _ q1382) (hC.2.2.2.2.1 _ q346) (hC.2.2.2.2.1 _ q1383) (by omega) (by omega) (by omega) (by omega) hd (k ls H locs k9 n9 hl hR h1 h2)
theorem hr_min (hC : hc_C hc_V0 E cc nL own ret d oc σe Y X) {x y : Int32} (hd : decode cc pc = .ok (.invokestatic idx, 3)) (hlk : Cond.methodLink own idx Lib.Math.min.name ∈ lw_all) (hd1 : 1 ≤ d) (hw : (st.map fun v => v.category).sum ≤ 33) (k : hc_At hc_V0 E nL X (pc + 3) lv (.int (jmin x y) :: st) σ am tm) : hc_At hc_V0 E nL X pc lv (.int y :: .int x :: st) σ am tm := by
  intro ls H locs k9 n9 hl hR h1 h2
  have hfr := hC.2.2.2.2.2.2.2.2.2.2.2.1
  have hlo := hC.2.2.2.2.2.2.2.2.2.2.2.2.1
  exact va_mmin hC.1 hC.2.1 (by rw [hC.2.2.1]; exact hl.1.symm) hC.2.2.2.1 (hC.2.2.2.2.1 _ hlk) (hC.2.2.2.2.1 _ q2675) (hC.2.2.2.2.1 _ q346) (hC.2.2.2.2.1 _ q2676) (by omega) (by omega) (by omega) (by omega) hd (k ls H locs k9 n9 hl hR h1 h2)
theorem hr_ldcs {v : Int32} (i : Nat) (hC : hc_C hc_V0 E cc nL own ret d oc σe Y X) {tx : String} (hd : decode cc pc = .ok (.ldc idx, 2)) (hq : (own, idx, i, tx) ∈ hs_R) (hi : i < 2147483648) (hv : Int32.ofNat i = v) (k : hc_At hc_V0 E nL X (pc + 2) lv (.ref (E.2.2.2.1 v.toNatClampNeg) :: st) σ am tm) : hc_At hc_V0 E nL X pc lv st σ am tm := by
  intro ls H locs k9 n9 hl hR h1 h2
  subst hv
  have e : (Int32.ofNat i).toNatClampNeg = i := nI_clamp hi
  rw [e] at k
  exact va_ldcS hC.1 hC.2.1 hC.2.2.2.1 (hC.2.2.2.2.2.2.2.2.1.1.2 _ hq) hd (k ls H locs k9 n9 hl hR h1 h2)
theorem hr_ldcsw {v : Int32} (i : Nat) (hC : hc_C hc_V0 E cc nL own ret d oc σe Y X) {tx : String} (hd : decode cc pc = .ok (.ldc_w idx, 3)) (hq : (own, idx, i, tx) ∈ hs_R) (hi : i < 2147483648) (hv : Int32.ofNat i = v) (k : hc_At hc_V0 E nL X (pc + 3) lv (.ref (E.2.2.2.1 v.toNatClampNeg) :: st) σ am tm) : hc_At hc_V0 E nL X pc lv st σ am tm := by
  intro ls H locs k9 n9 hl hR h1 h2
  subst hv
  have e : (Int32.ofNat i).toNatClampNeg = i := nI_clamp hi
  rw [e] at k
  intro T hT X9
  obtain ⟨t, a1, b1⟩ := k ls H locs k9 n9 hl hR h1 h2 T hT X9
  have hZ := hC.2.2.2.2.2.2.2.2.1.1.2 _ hq
  exact ⟨t, hc_ldcw X9 hC.1 hC.2.2.2.1 (text := tx) hZ.1 hZ.2 (g := F0 X.2.2.2.2.2.1 pc ls st) rfl (by rw [hC.2.1]; exact hd) t a1, b1⟩
theorem hr_copyK {kd t0 q n k0 : Nat} {w : Int32} {ty : FieldType} (hC : hc_C hc_V0 E cc nL own ret d oc σe Y X) (hk0 : hc_V0.2.1.2.2.2.2.2[k0]? = some (o, f)) {F Gt : Nat → Int32} (hae : hc_ae hc_V0.2.1 E σ o f = (E.2.2.1 kd, (gL σ o f, .inl F))) (hat : hc_ac E kd n (fun _ => 0) = (E.2.2.1 kd, (n, .inl Gt))) (hty : (hc_tys E)[t0]? = some (E.2.2.1 kd, ty)) (hprim : refKind ty = false) (hfit : ∀ i, fits ty (.int (F i)) = true) (hres : hc_ac E kd n (va_cpy (σ.2.2.1 o f) (fun _ => 0) 0 0 w.toNatClampNeg) = (E.2.2.1 kd, (n, .inl (va_cpy F Gt 0 0 w.toNatClampNeg)))) (hc : hcp w (gL σ o f) n = true) (hd : decode cc pc = .ok (.invokestatic idx, 3)) (hlk : Cond.methodLink own idx arraycopyName ∈ lw_all) (hd1 : 1 ≤ d) (hw : (st.map fun v => v.category).sum ≤ 20) (k : hc_At hc_V0 E nL X (pc + 3) lv st σ am [(q, kd, n, va_cpy (σ.2.2.1 o f) (fun _ => 0) 0 0 w.toNatClampNeg)]) : hc_At hc_V0 E nL X pc lv (.int w :: .int 0 :: .ref q :: .int 0 :: .ref (am o f) :: st) σ am [(q, kd, n, fun _ => 0)] := by
  intro ls H locs k9 n9 hl hR h1 h2
  simp only [hcp, Bool.and_eq_true, decide_eq_true_eq] at hc
  have hfr := hC.2.2.2.2.2.2.2.2.2.2.2.1
  have hlo := hC.2.2.2.2.2.2.2.2.2.2.2.2.1
  have hz : (0 : Int32).toNatClampNeg = 0 := sb_cl0
  have hnw : nativeFrameWords "java/lang/System" "arraycopy" 5 ≤ 15 := by decide
  refine va_copyi (sp := 0) (dp := 0) hC.1 hC.2.1 (by rw [hC.2.2.1]; exact hl.1.symm) hC.2.2.2.1 (hC.2.2.2.2.1 _ hlk) (hC.2.2.2.2.1 _ q1185) (hC.2.2.2.2.1 _ q1184) (hC.2.2.2.2.1 _ q340) hC.2.2.2.2.2.2.2.1 hR.1 hR.2.1 hR.2.2.1 (hc_V0.2.1.1 + k0) (hc_V0.2.1.1 + hc_V0.2.1.2.2.2.2.2.length) t0 t0 (f := F) (g := Gt) ((hc_ws_a hk0).trans (by rw [hae])) (hc_ws_t.trans (by rw [hat])) hty hty hprim (by decide) (by decide) hc.1 (by rw [hz, Nat.zero_add]; exact hc.2.1) (by rw [hz, Nat.zero_add]; exact hc.2.2) (fun i _ => hfit _) (by omega) (by omega) hd (fun H1 locs1 a b c => ?_)
  rw [hz, hc_ws_tm hres] at a b
  exact k ls H1 locs1 k9 n9 hl ⟨a, b, c, hR.2.2.2⟩ h1 h2
/-- an array of a field is copied into one under way -/
theorem hr_copy1 {q n : Nat} {w : Int32} (hC : hc_C hc_V0 E cc nL own ret d oc σe Y X) (hA : hc_Af hc_V0 o f 1) (hc : hcp w (gL σ o f) n = true) (hd : decode cc pc = .ok (.invokestatic idx, 3)) (hlk : Cond.methodLink own idx arraycopyName ∈ lw_all) (hd1 : 1 ≤ d) (hw : (st.map fun v => v.category).sum ≤ 20) (k : hc_At hc_V0 E nL X (pc + 3) lv st σ am [(q, 1, n, va_cpy (σ.2.2.1 o f) (fun _ => 0) 0 0 w.toNatClampNeg)]) : hc_At hc_V0 E nL X pc lv (.int w :: .int 0 :: .ref q :: .int 0 :: .ref (am o f) :: st) σ am [(q, 1, n, fun _ => 0)] := by
  obtain ⟨⟨k0, h0⟩, h1⟩ := hA
  exact hr_copyK (t0 := 0) (ty := .int) hC h0 (F := σ.2.2.1 o f) (Gt := fun _ => 0) (by rw [hc_ae, h1]; rfl) rfl rfl rfl (fun _ => rfl) rfl hc hd hlk hd1 hw k
theorem hr_copy2 {q n : Nat} {w : Int32} (hC : hc_C hc_V0 E cc nL own ret d oc σe Y X) (hA : hc_Af hc_V0 o f 2) (hc : hcp w (gL σ o f) n = true) (hd : decode cc pc = .ok (.invokestatic idx, 3)) (hlk : Cond.methodLink own idx arraycopyName ∈ lw_all) (hd1 : 1 ≤ d) (hw : (st.map fun v => v.category).sum ≤ 20) (k : hc_At hc_V0 E nL X (pc + 3) lv st σ am [(q, 2, n, va_cpy (σ.2.2.1 o f) (fun _ => 0) 0 0 w.toNatClampNeg)]) : hc_At hc_V0 E nL X pc lv (.int w :: .int 0 :: .ref q :: .int 0 :: .ref (am o f) :: st) σ am [(q, 2, n, fun _ => 0)] := by
  obtain ⟨⟨k0, h0⟩, h1⟩ := hA
  refine hr_copyK (t0 := 1) (ty := .byte) hC h0 (F := fun i => (σ.2.2.1 o f i).toInt8.toInt32) (Gt := fun _ => (0 : Int32).toInt8.toInt32) (by rw [hc_ae, h1]; rfl) rfl rfl rfl (fun i => pk_fb _) ?_ hc hd hlk hd1 hw k
  simp only [hc_ac, hc_nk]
  congr 3
  funext i
  simp only [va_cpy]
  split <;> rfl
/-- the contract of 'longer': a new array, twice as long -/
def hc_Lo (l : Launch) (y : MethodName) (cc : ByteArray) (d : Nat) (E : hc_E) (A : Nat → Prop) : Prop := ∀ (am : Nat → Nat → Nat) (σ : hc_St) (o f : Nat), hc_Af hc_V0 o f 1 → hlo (gL σ o f) σ = true →
  hc_Mt l y (ws_ y cc 2 (some (.array .int))) ({ frames := d, cells := σ.2.2.2.1, slots := σ.2.2.2.2, locals := 46 * d } : Room) (fun ar U => ar = ([.ref (am o f)] : List Value).toArray ∧ hc_Pre hc_V0 E A am σ U)
    (fun _ st oo t => (∃ q : Nat, oo = .returned (some (.ref q)) ∧ va_P E.1 hc_V0.1 (hc_ws hc_V0.2.1 E σ am [(q, 1, 2 * gL σ o f, va_cpy (σ.2.2.1 o f) (fun _ => 0) 0 0 (gL σ o f))]) t.heap ∧ va_D A (hc_ws hc_V0.2.1 E σ am [(q, 1, 2 * gL σ o f, va_cpy (σ.2.2.1 o f) (fun _ => 0) 0 0 (gL σ o f))])) ∧ va_F A st t) A (fun k n => k = 1 ∧ n = 2 * gL σ o f)
theorem hr_longer {y : MethodName} {bytes : ByteArray} {idx2 : Nat} {l : Launch} {A : Nat → Prop} {rb : List Nat} {am0 : Nat → Nat → Nat} (hM : hc_Lo l y bytes (d - 1) E A) (hC : hc_C hc_V0 E cc nL own ret d oc σe (l, A, am0, rb) X) (hF : hc_F hc_V0 C T N o f 1) (hak : hc_ak 1 = true) (hA : hc_Af hc_V0 o f 1) (hP : hc_Fp T N f (.array .int)) (hrb : o ∈ rb) (hc : hlo (gL σ o f) σ = true) (hd : decode cc pc = .ok (.invokestatic idx, 3)) (hlk : Cond.methodLink own idx y ∈ lw_all) (hd2 : decode cc (pc + 3) = .ok (.putfield idx2, 3)) (hlk2 : Cond.fieldLink own idx2 C (T f).2.1 (T f).2.2.1 ∈ lw_all) (hlen : (parseMethodDescriptor y.desc).map (fun sig => sig.parameters.length) = some 1) (hst : Cond.static y ∈ lw_all) (hini : Cond.initialized y.cls ∈ lw_all) (hcode : Cond.code y bytes 2 (some (.array .int)) ∈ lw_all) (hy : y.cls ≠ "java/lang/invoke/MethodHandle" ∧ y.cls ≠ "java/lang/invoke/VarHandle") (hw : (st.map fun v => v.category).sum ≤ 20) (hd1 : 1 ≤ d) (k : ∀ q : Nat, hc_At hc_V0 E nL X (pc + 6) lv st (hlg σ o f) (hc_up2 am o f q) []) : hc_At hc_V0 E nL X pc lv (.ref (am o f) :: .ref (E.2.1 o) :: st) σ am [] := by
  intro ls H locs k9 n9 hl hR h1 h2 T9 hT S9
  have hM1 := hM am σ o f hA hc
  have hlo1 := hc
  simp only [hlo, Bool.and_eq_true, decide_eq_true_eq] at hlo1
  have hws := hc_words hC.2.2.2.2.1 hcode
  have hfr := hC.2.2.2.2.2.2.2.2.2.2.2.1
  have hlo := hC.2.2.2.2.2.2.2.2.2.2.2.2.1
  rw [← show X.2.1 = l from hC.2.2.2.2.2.2.2.2.2.2.2.2.2.2.2.1] at hM1
  obtain ⟨oo, t, B, L, kk, nn, vm1, g1, mk, S1, e1, e2, hq, hK, hL, hr, -⟩ := hc_runS (Wd := ((Value.ref (E.2.1 o) :: st).map fun v => v.category).sum) S9 hC.1 hC.2.2.2.1 (hC.2.2.2.2.1 _ hlk) (hC.2.2.2.2.1 _ hst) (hC.2.2.2.2.1 _ hcode) hy hM1 (by show d - 1 + 1 ≤ _; omega) (by
    have hs : ((Value.ref (E.2.1 o) :: st).map fun v => v.category).sum = 1 + (st.map fun v => v.category).sum := rfl
    rw [hs]; show _ + _ + 46 * (d - 1) ≤ _; omega) hws List.mem_cons_self (hC.2.2.2.2.1 _ hini) (g := F0 X.2.2.2.2.2.1 pc ls (.ref (am o f) :: .ref (E.2.1 o) :: st)) rfl (by rw [hC.2.2.1]; exact hl.1) (argsL := [.ref (am o f)]) (rest := .ref (E.2.1 o) :: st) (fun sig hs => by rw [hs] at hlen; exact (Option.some.inj hlen).symm) rfl (by simp [JFrame.monitorRoom]) (by rw [hC.2.1]; exact hd) (by show k9 + σ.2.2.2.1 ≤ _; omega) (by show n9 + σ.2.2.2.2 ≤ _; omega) (fun vm1 g1 mk hW => ⟨rfl, hc_pre hC hR (U := (T9.setVm vm1).calling g1 mk _) (by exact hT) hW⟩)
  obtain ⟨⟨q, z1, z2, z3⟩, z4, z5⟩ := hq
  have hYA : X.2.2.2.2.2.2.2.2.2.2.1 = A := hC.2.2.2.2.2.2.2.2.2.2.2.2.2.2.2.2.1
  have hU : ((T9.setVm vm1).calling g1 mk ([.ref (am o f)] : List Value).toArray).heap = H := hT
  have hR1 : hc_R hc_V0 E X σ am [(q, 1, 2 * gL σ o f, va_cpy (σ.2.2.1 o f) (fun _ => 0) 0 0 (gL σ o f))] B.heap (locs ++ L) := by
    refine ⟨by rw [e1]; exact z2, by rw [hYA]; exact z3, ⟨?_, ?_, ?_⟩, hR.2.2.2⟩
    · rw [e1]; exact Nat.le_trans hR.2.2.1.1 (by rw [← hU]; exact z4)
    · intro a ha1 ha2
      rw [e1, z5 a (by rw [hU]; exact Nat.lt_of_lt_of_le ha1 hR.2.2.1.1) (by rw [← hYA]; exact ha2), hU]
      exact hR.2.2.1.2.1 a ha1 ha2
    · intro a ha
      rcases List.mem_append.mp ha with z | z
      · exact hR.2.2.1.2.2 a z
      · rw [hYA]; exact hL a z
  have hR2 : hc_R hc_V0 E X (pU σ 1 (2 * gL σ o f)) am [(q, 1, 2 * gL σ o f, va_cpy (σ.2.2.1 o f) (fun _ => 0) 0 0 (gL σ o f))] B.heap (locs ++ L) := hR1
  have hput := hr_pA (st := st) (lv := lv) hC hF hak hA hP hrb hd2 hlk2 (σ := pU σ 1 (2 * gL σ o f)) (am := am) (k q)
  obtain ⟨t1, b1, b2⟩ := hput ls B.heap (locs ++ L) (k9 + kk) (n9 + nn) hl hR2 (by rw [hK.1]; simp only [pU]; omega) (by rw [hK.2]; simp only [pU]; omega) B rfl S1
  exact ⟨t1, hr _ z1 t1 b1, b2⟩
end HCZ
theorem okl_gen {l : Launch} {E : hc_E} {A : Nat → Prop} {d idx : Nat} {y : MethodName} {cc : ByteArray} {own : String} (hd : 2 ≤ d) (hy : plainName own = true) (hown : y.cls = own) (hlk : Cond.methodLink own idx arraycopyName ∈ lw_all)
    (d0 : decode cc 0 = .ok (.iconst 2, 1)) (d1 : decode cc 1 = .ok (.aload_n 0, 1)) (d2 : decode cc 2 = .ok (.arraylength, 1)) (d3 : decode cc 3 = .ok (.imul, 1)) (d4 : decode cc 4 = .ok (.newarray .int, 2)) (d6 : decode cc 6 = .ok (.astore_n 1, 1)) (d7 : decode cc 7 = .ok (.aload_n 0, 1)) (d8 : decode cc 8 = .ok (.iconst 0, 1)) (d9 : decode cc 9 = .ok (.aload_n 1, 1)) (d10 : decode cc 10 = .ok (.iconst 0, 1)) (d11 : decode cc 11 = .ok (.aload_n 0, 1)) (d12 : decode cc 12 = .ok (.arraylength, 1)) (d13 : decode cc 13 = .ok (.invokestatic idx, 3)) (d16 : decode cc 16 = .ok (.aload_n 1, 1)) (d17 : decode cc 17 = .ok (.areturn, 1)) : hc_Lo l y cc d E A := by
  intro am σ o f hA hlx
  simp only [hlo, Bool.and_eq_true, decide_eq_true_eq] at hlx
  obtain ⟨⟨k0, hk0⟩, hkd⟩ := hA
  refine hc_ofW (cc := cc) (maxL := 2) (ret := some (.array .int)) (by rw [hown]; exact hy) rfl ?_
  intro p e s m args below meth c s₁ B hml hem hv
  obtain ⟨rfl, hP, hD, hK, hJ, hA⟩ := hv
  have hx := B.exec
  have hb := B.bytes
  have hr := B.returns
  have hts := atoms_spec (ws := ws_ y cc 2 (some (.array .int))) B.pre
  have hts : ∀ w ∈ lw_all, w.before _ s = true := fun w h => hts w (List.mem_cons_of_mem _ h)
  have hfc : s.vm.findClass own = some m.cls := by rw [← hown]; exact findClass_of_methodNamed B.named
  have hlocks := B.notSynchronized
  have hS : va_S A s.heap s.heap [] := va_S.rf
  have hl := lv_entry ([.ref (am o f)]) (n := 2) (Nat.le_of_ble_eq_true rfl)
  rw [lg_entry_eq]
  generalize (lg_sl ([.ref (am o f)]) ++ List.replicate (2 - (lg_sl ([.ref (am o f)])).length) Slot.unset).toArray = ls at hl ⊢
  have hl : lv_has ls 2 [(0, .ref (am o f))] := hl
  have hae : hc_ae hc_V0.2.1 E σ o f = (E.2.2.1 1, (gL σ o f, .inl (σ.2.2.1 o f))) := by rw [hc_ae, hkd]; rfl
  have hw0 : (hc_ws hc_V0.2.1 E σ am [])[hc_V0.2.1.1 + k0]? = some (am o f, .inl (E.2.2.1 1, gL σ o f, .inl (σ.2.2.1 o f))) := (hc_ws_a hk0).trans (by rw [hae])
  have hn : (2 : Int32) * nI (gL σ o f) = nI (2 * gL σ o f) := pk_mul 2 (gL σ o f)
  have hc : (nI (2 * gL σ o f)).toNatClampNeg = 2 * gL σ o f := nI_clamp (by omega)
  have hc1 : (nI (gL σ o f)).toNatClampNeg = gL σ o f := nI_clamp (by omega)
  refine lv_iconst (v := 2) hx hb d0 rfl ?_
  refine lv_aload_n hx hb d1 rfl (lv_at hl 0 rfl) ?_
  refine va_alen (v := nI (gL σ o f)) hx hb hK hP (hc_V0.2.1.1 + k0) 0 hw0 rfl rfl d2 ?_
  refine lv_imul hx hb d3 ?_
  rw [hn]
  refine va_newa hx hb (atype := .int) (hts _ q455) (ty := .int) rfl hK hP hD hS hA (a0 := (2 * gL σ o f, .inl (fun _ => 0))) (fun _ => rfl) (nI_pos (by omega)) hc (by show 2 * gL σ o f * 4 ≤ _; omega) (by show 0 + 1 ≤ σ.2.2.2.1; omega) (by show 0 + 2 * gL σ o f ≤ σ.2.2.2.2; omega) d4 (fun q cA H1 a b c9 e9 => ?_)
  have hcA : cA = E.2.2.1 1 := by
    have q1 := (a.2 ((hc_tys E).length) (cA, .int) (by simp)).2
    have q2 := (hK.2 0 (E.2.2.1 1, .int) rfl).2
    exact Option.some.inj (q1.symm.trans q2)
  subst hcA
  rw [← hc_ws_new (k := 0) (n := 0) (kd := 1) (m := 2 * gL σ o f) (g := fun _ => 0) (w := (E.2.2.1 1, (2 * gL σ o f, .inl (fun _ => 0)))) rfl] at b c9
  have hw1 : (hc_ws hc_V0.2.1 E (pU σ 0 0) am [(q, 1, 2 * gL σ o f, fun _ => 0)])[hc_V0.2.1.1 + k0]? = some (am o f, .inl (E.2.2.1 1, gL σ o f, .inl (σ.2.2.1 o f))) := (hc_ws_a hk0).trans (by rw [show hc_ae hc_V0.2.1 E (pU σ 0 0) o f = hc_ae hc_V0.2.1 E σ o f from rfl, hae])
  have hwt : (hc_ws hc_V0.2.1 E (pU σ 0 0) am [(q, 1, 2 * gL σ o f, fun _ => 0)])[hc_V0.2.1.1 + hc_V0.2.1.2.2.2.2.2.length]? = some (q, .inl (E.2.2.1 1, 2 * gL σ o f, .inl (fun _ => 0))) := hc_ws_t
  refine lv_astore_n (lv' := [(1, .ref q), (0, .ref (am o f))]) hx hb d6 rfl hl (by decide) rfl (fun ls hl => ?_)
  refine lv_aload_n hx hb d7 rfl (lv_at hl 1 rfl) ?_
  refine lv_iconst (v := 0) hx hb d8 rfl ?_
  refine lv_aload_n hx hb d9 rfl (lv_at hl 0 rfl) ?_
  refine lv_iconst (v := 0) hx hb d10 rfl ?_
  refine lv_aload_n hx hb d11 rfl (lv_at hl 1 rfl) ?_
  refine va_alen (v := nI (gL σ o f)) hx hb hK b (hc_V0.2.1.1 + k0) 0 hw1 rfl rfl d12 ?_
  have hz : (0 : Int32).toNatClampNeg = 0 := sb_cl0
  have hnw : nativeFrameWords "java/lang/System" "arraycopy" 5 ≤ 15 := by decide
  refine va_copyi (sp := 0) (dp := 0) hx hb (by rw [hml]; exact hl.1.symm) hfc (hts _ hlk) (hts _ q1185) (hts _ q1184) (hts _ q340) hK b c9 e9 (hc_V0.2.1.1 + k0) (hc_V0.2.1.1 + hc_V0.2.1.2.2.2.2.2.length) 0 0 hw1 hwt rfl rfl rfl (by decide) (by decide) (nI_pos (by omega)) (by rw [hz, hc1]; omega) (by rw [hz, hc1]; show 0 + gL σ o f ≤ 2 * gL σ o f; omega) (fun i _ => rfl) (by show 1 ≤ d; omega) (by show 0 + _ ≤ 46 * d; omega) d13 (fun H2 locs2 a2 b2 c2 => ?_)
  rw [hz, hc1, hc_ws_tm (E := E) (kd := 1) (n := 2 * gL σ o f) (g' := va_cpy (σ.2.2.1 o f) (fun _ => 0) 0 0 (gL σ o f)) (w := (E.2.2.1 1, (2 * gL σ o f, .inl (va_cpy (σ.2.2.1 o f) (fun _ => 0) 0 0 (gL σ o f))))) rfl] at a2 b2
  refine lv_aload_n hx hb d16 rfl (lv_at hl 0 rfl) ?_
  refine hc_ofMQ ⟨by omega, by omega⟩ ?_
  exact W.aret hx hb hr (Or.inr ⟨_, rfl⟩) (Or.inr ⟨q, rfl⟩) (fun t ht hW => ⟨⟨q, rfl, by rw [ht]; exact a2, b2⟩, c2.F ht⟩) c2.2.2 d17 hlocks
theorem okl_X10 (l : Launch) (E : hc_E) (A : Nat → Prop) (d : Nat) (hd : 2 ≤ d) : hc_Lo l yX10_longer cX10_longer d E A := okl_gen hd pl_X10 rfl q1574 dX10_longer_0 dX10_longer_1 dX10_longer_2 dX10_longer_3 dX10_longer_4 dX10_longer_6 dX10_longer_7 dX10_longer_8 dX10_longer_9 dX10_longer_10 dX10_longer_11 dX10_longer_12 dX10_longer_13 dX10_longer_16 dX10_longer_17
theorem okl_X11 (l : Launch) (E : hc_E) (A : Nat → Prop) (d : Nat) (hd : 2 ≤ d) : hc_Lo l yX11_longer cX11_longer d E A := okl_gen hd pl_X11 rfl q1755 dX11_longer_0 dX11_longer_1 dX11_longer_2 dX11_longer_3 dX11_longer_4 dX11_longer_6 dX11_longer_7 dX11_longer_8 dX11_longer_9 dX11_longer_10 dX11_longer_11 dX11_longer_12 dX11_longer_13 dX11_longer_16 dX11_longer_17
theorem okl_X12 (l : Launch) (E : hc_E) (A : Nat → Prop) (d : Nat) (hd : 2 ≤ d) : hc_Lo l yX12_longer cX12_longer d E A := okl_gen hd pl_X12 rfl q1895 dX12_longer_0 dX12_longer_1 dX12_longer_2 dX12_longer_3 dX12_longer_4 dX12_longer_6 dX12_longer_7 dX12_longer_8 dX12_longer_9 dX12_longer_10 dX12_longer_11 dX12_longer_12 dX12_longer_13 dX12_longer_16 dX12_longer_17
theorem okl_X3 (l : Launch) (E : hc_E) (A : Nat → Prop) (d : Nat) (hd : 2 ≤ d) : hc_Lo l yX3_longer cX3_longer d E A := okl_gen hd pl_X3 rfl q1183 dX3_longer_0 dX3_longer_1 dX3_longer_2 dX3_longer_3 dX3_longer_4 dX3_longer_6 dX3_longer_7 dX3_longer_8 dX3_longer_9 dX3_longer_10 dX3_longer_11 dX3_longer_12 dX3_longer_13 dX3_longer_16 dX3_longer_17
theorem okl_X6 (l : Launch) (E : hc_E) (A : Nat → Prop) (d : Nat) (hd : 2 ≤ d) : hc_Lo l yX6_longer cX6_longer d E A := okl_gen hd pl_X6 rfl q1241 dX6_longer_0 dX6_longer_1 dX6_longer_2 dX6_longer_3 dX6_longer_4 dX6_longer_6 dX6_longer_7 dX6_longer_8 dX6_longer_9 dX6_longer_10 dX6_longer_11 dX6_longer_12 dX6_longer_13 dX6_longer_16 dX6_longer_17
