/-! ===== as long as nothing was written ===== -/
def hc_Az (V : hc_V) (E : hc_E) (nL : Nat) (X : hc_X) (pc : Nat) (lv : List (Nat × Value)) (st : List Value) (σ : hc_St) (am : Nat → Nat → Nat) (tm : hc_T) : Prop :=
  ∀ (ls : Array Slot) (H : Heap) (k n : Nat), lv_has ls nL lv → hc_R V E X σ am tm H [] → σ.2.2.2.1 + k = X.2.2.2.1.cells → σ.2.2.2.2 + n = X.2.2.2.1.slots →
    W X.1 X.2.1 X.2.2.1 X.2.2.2.1 X.2.2.2.2.1 X.2.2.2.2.2.1 X.2.2.2.2.2.2.1 X.2.2.2.2.2.2.2.1 X.2.2.2.2.2.2.2.2.1 X.2.2.2.2.2.2.2.2.2.1 H [] k n X.2.2.2.2.2.2.2.2.2.2.2.1 (F0 X.2.2.2.2.2.1 pc ls st)
section HCRZ
variable {V : hc_V} {E : hc_E} {cc : ByteArray} {nL d pc : Nat} {own : String} {ret : Option FieldType} {oc : hc_Oc} {σe : hc_St} {Y : hc_Y} {X : hc_X} {lv lv' : List (Nat × Value)} {st : List Value} {σ : hc_St} {am : Nat → Nat → Nat} {tm : hc_T}
/-- fewer locals are enough -/
theorem hz_sub (lv' : List (Nat × Value)) (h : lv'.map (fun q => hc_look lv q.1) = lv'.map (fun q => some q.2)) (k : hc_Az V E nL X pc lv' st σ am tm) : hc_Az V E nL X pc lv st σ am tm := by
  intro ls H k9 n9 hl
  refine k ls H k9 n9 ⟨hl.1, hl.2.1, fun q hq => ?_⟩
  exact hc_has hl (List.map_inj_left.mp h q hq)

theorem hz_iconst (hC : hc_C V E cc nL own ret d oc σe Y X) {n : Int} {v : Int32} (hd : decode cc pc = .ok (.iconst n, 1)) (hv : Int32.ofInt n = v) (k : hc_Az V E nL X (pc + 1) lv (.int v :: st) σ am tm) : hc_Az V E nL X pc lv (st) σ am tm :=
  fun ls H k9 n9 hl hR h1 h2 => lv_iconst hC.1 hC.2.1 hd hv (k ls H k9 n9 hl hR h1 h2)
theorem hz_bipush (hC : hc_C V E cc nL own ret d oc σe Y X) {n : Int} {v : Int32} (hd : decode cc pc = .ok (.bipush n, 2)) (hv : (Int8.ofInt n).toInt32 = v) (k : hc_Az V E nL X (pc + 2) lv (.int v :: st) σ am tm) : hc_Az V E nL X pc lv (st) σ am tm :=
  fun ls H k9 n9 hl hR h1 h2 => lv_bipush hC.1 hC.2.1 hd hv (k ls H k9 n9 hl hR h1 h2)
theorem hz_sipush (hC : hc_C V E cc nL own ret d oc σe Y X) {n : Int} {v : Int32} (hd : decode cc pc = .ok (.sipush n, 3)) (hv : (Int16.ofInt n).toInt32 = v) (k : hc_Az V E nL X (pc + 3) lv (.int v :: st) σ am tm) : hc_Az V E nL X pc lv (st) σ am tm :=
  fun ls H k9 n9 hl hR h1 h2 => lv_sipush hC.1 hC.2.1 hd hv (k ls H k9 n9 hl hR h1 h2)
theorem hz_lconst (hC : hc_C V E cc nL own ret d oc σe Y X) {n : Fin 2} {v : Int64} (hd : decode cc pc = .ok (.lconst n, 1)) (hv : Int64.ofNat (n : Nat) = v) (k : hc_Az V E nL X (pc + 1) lv (.long v :: st) σ am tm) : hc_Az V E nL X pc lv (st) σ am tm :=
  fun ls H k9 n9 hl hR h1 h2 => lv_lconst hC.1 hC.2.1 hd hv (k ls H k9 n9 hl hR h1 h2)
theorem hz_ldc (hC : hc_C V E cc nL own ret d oc σe Y X) {i : Nat} {v : Int32} (hd : decode cc pc = .ok (.ldc i, 2)) (hv : Cond.constant own i v ∈ lw_all) (k : hc_Az V E nL X (pc + 2) lv (.int v :: st) σ am tm) : hc_Az V E nL X pc lv (st) σ am tm :=
  fun ls H k9 n9 hl hR h1 h2 => lv_ldc hC.1 hC.2.1 hC.2.2.2.1 (hC.2.2.2.2.1 _ hv) hd (k ls H k9 n9 hl hR h1 h2)
theorem hz_ldcw (hC : hc_C V E cc nL own ret d oc σe Y X) {i : Nat} {v : Int32} (hd : decode cc pc = .ok (.ldc_w i, 3)) (hv : Cond.constant own i v ∈ lw_all) (k : hc_Az V E nL X (pc + 3) lv (.int v :: st) σ am tm) : hc_Az V E nL X pc lv (st) σ am tm :=
  fun ls H k9 n9 hl hR h1 h2 => lv_ldcw hC.1 hC.2.1 hC.2.2.2.1 (hC.2.2.2.2.1 _ hv) hd (k ls H k9 n9 hl hR h1 h2)
theorem hz_ldc2 (hC : hc_C V E cc nL own ret d oc σe Y X) {i : Nat} {v : Int64} (hd : decode cc pc = .ok (.ldc2_w i, 3)) (hv : Cond.constantLong own i v ∈ lw_all) (k : hc_Az V E nL X (pc + 3) lv (.long v :: st) σ am tm) : hc_Az V E nL X pc lv (st) σ am tm :=
  fun ls H k9 n9 hl hR h1 h2 => lv_ldc2 hC.1 hC.2.1 hC.2.2.2.1 (hC.2.2.2.2.1 _ hv) hd (k ls H k9 n9 hl hR h1 h2)
theorem hz_iload_n (hC : hc_C V E cc nL own ret d oc σe Y X) {i : Fin 4} {x : Int32} (hd : decode cc pc = .ok (.iload_n i, 1)) (hv : hc_look lv (i : Nat) = some (.int x)) (k : hc_Az V E nL X (pc + 1) lv (.int x :: st) σ am tm) : hc_Az V E nL X pc lv (st) σ am tm :=
  fun ls H k9 n9 hl hR h1 h2 => lv_iload_n hC.1 hC.2.1 hd rfl (hc_has hl hv) (k ls H k9 n9 hl hR h1 h2)
theorem hz_iload (hC : hc_C V E cc nL own ret d oc σe Y X) {i : Nat} {x : Int32} (hd : decode cc pc = .ok (.iload i, 2)) (hv : hc_look lv i = some (.int x)) (k : hc_Az V E nL X (pc + 2) lv (.int x :: st) σ am tm) : hc_Az V E nL X pc lv (st) σ am tm :=
  fun ls H k9 n9 hl hR h1 h2 => lv_iload hC.1 hC.2.1 hd (hc_has hl hv) (k ls H k9 n9 hl hR h1 h2)
theorem hz_lload_n (hC : hc_C V E cc nL own ret d oc σe Y X) {i : Fin 4} {x : Int64} (hd : decode cc pc = .ok (.lload_n i, 1)) (hv : hc_look lv (i : Nat) = some (.long x)) (k : hc_Az V E nL X (pc + 1) lv (.long x :: st) σ am tm) : hc_Az V E nL X pc lv (st) σ am tm :=
  fun ls H k9 n9 hl hR h1 h2 => lv_lload_n hC.1 hC.2.1 hd rfl (hc_has hl hv) (k ls H k9 n9 hl hR h1 h2)
theorem hz_lload (hC : hc_C V E cc nL own ret d oc σe Y X) {i : Nat} {x : Int64} (hd : decode cc pc = .ok (.lload i, 2)) (hv : hc_look lv i = some (.long x)) (k : hc_Az V E nL X (pc + 2) lv (.long x :: st) σ am tm) : hc_Az V E nL X pc lv (st) σ am tm :=
  fun ls H k9 n9 hl hR h1 h2 => lv_lload hC.1 hC.2.1 hd (hc_has hl hv) (k ls H k9 n9 hl hR h1 h2)
theorem hz_aload_n (hC : hc_C V E cc nL own ret d oc σe Y X) {i : Fin 4} {x : Nat} (hd : decode cc pc = .ok (.aload_n i, 1)) (hv : hc_look lv (i : Nat) = some (.ref x)) (k : hc_Az V E nL X (pc + 1) lv (.ref x :: st) σ am tm) : hc_Az V E nL X pc lv (st) σ am tm :=
  fun ls H k9 n9 hl hR h1 h2 => lv_aload_n hC.1 hC.2.1 hd rfl (hc_has hl hv) (k ls H k9 n9 hl hR h1 h2)
theorem hz_aload (hC : hc_C V E cc nL own ret d oc σe Y X) {i : Nat} {x : Nat} (hd : decode cc pc = .ok (.aload i, 2)) (hv : hc_look lv i = some (.ref x)) (k : hc_Az V E nL X (pc + 2) lv (.ref x :: st) σ am tm) : hc_Az V E nL X pc lv (st) σ am tm :=
  fun ls H k9 n9 hl hR h1 h2 => lv_aload hC.1 hC.2.1 hd (hc_has hl hv) (k ls H k9 n9 hl hR h1 h2)
theorem hz_istore_n (hC : hc_C V E cc nL own ret d oc σe Y X) {i : Fin 4} {x : Int32} (hd : decode cc pc = .ok (.istore_n i, 1)) (hn : (i : Nat) < nL) (k : hc_Az V E nL X (pc + 1) (hc_put lv (i : Nat) (.int x)) (st) σ am tm) : hc_Az V E nL X pc lv (.int x :: st) σ am tm :=
  fun ls H k9 n9 hl hR h1 h2 => lv_istore_n hC.1 hC.2.1 hd rfl hl hn rfl (fun ls' hl' => k ls' H k9 n9 hl' hR h1 h2)
theorem hz_istore (hC : hc_C V E cc nL own ret d oc σe Y X) {i : Nat} {x : Int32} (hd : decode cc pc = .ok (.istore i, 2)) (hn : i < nL) (k : hc_Az V E nL X (pc + 2) (hc_put lv i (.int x)) (st) σ am tm) : hc_Az V E nL X pc lv (.int x :: st) σ am tm :=
  fun ls H k9 n9 hl hR h1 h2 => lv_istore hC.1 hC.2.1 hd hl hn rfl (fun ls' hl' => k ls' H k9 n9 hl' hR h1 h2)
theorem hz_astore_n (hC : hc_C V E cc nL own ret d oc σe Y X) {i : Fin 4} {x : Nat} (hd : decode cc pc = .ok (.astore_n i, 1)) (hn : (i : Nat) < nL) (k : hc_Az V E nL X (pc + 1) (hc_put lv (i : Nat) (.ref x)) (st) σ am tm) : hc_Az V E nL X pc lv (.ref x :: st) σ am tm :=
  fun ls H k9 n9 hl hR h1 h2 => lv_astore_n hC.1 hC.2.1 hd rfl hl hn rfl (fun ls' hl' => k ls' H k9 n9 hl' hR h1 h2)
theorem hz_astore (hC : hc_C V E cc nL own ret d oc σe Y X) {i : Nat} {x : Nat} (hd : decode cc pc = .ok (.astore i, 2)) (hn : i < nL) (k : hc_Az V E nL X (pc + 2) (hc_put lv i (.ref x)) (st) σ am tm) : hc_Az V E nL X pc lv (.ref x :: st) σ am tm :=
  fun ls H k9 n9 hl hR h1 h2 => lv_astore hC.1 hC.2.1 hd hl hn rfl (fun ls' hl' => k ls' H k9 n9 hl' hR h1 h2)
theorem hz_lstore_n (hC : hc_C V E cc nL own ret d oc σe Y X) {i : Fin 4} {x : Int64} (hd : decode cc pc = .ok (.lstore_n i, 1)) (hn : (i : Nat) + 1 < nL) (k : hc_Az V E nL X (pc + 1) (hc_put2 lv (i : Nat) (.long x)) (st) σ am tm) : hc_Az V E nL X pc lv (.long x :: st) σ am tm :=
  fun ls H k9 n9 hl hR h1 h2 => lv_lstore_n hC.1 hC.2.1 hd rfl hl hn rfl (fun ls' hl' => k ls' H k9 n9 hl' hR h1 h2)
theorem hz_lstore (hC : hc_C V E cc nL own ret d oc σe Y X) {i : Nat} {x : Int64} (hd : decode cc pc = .ok (.lstore i, 2)) (hn : i + 1 < nL) (k : hc_Az V E nL X (pc + 2) (hc_put2 lv i (.long x)) (st) σ am tm) : hc_Az V E nL X pc lv (.long x :: st) σ am tm :=
  fun ls H k9 n9 hl hR h1 h2 => lv_lstore hC.1 hC.2.1 hd hl hn rfl (fun ls' hl' => k ls' H k9 n9 hl' hR h1 h2)
theorem hz_iinc (hC : hc_C V E cc nL own ret d oc σe Y X) {i : Nat} {n : Int} {x v : Int32} (hd : decode cc pc = .ok (.iinc i n, 3)) (hv : hc_look lv i = some (.int x)) (he : x + Int32.ofInt n = v) (hn : i < nL) (k : hc_Az V E nL X (pc + 3) (hc_put lv i (.int v)) st σ am tm) : hc_Az V E nL X pc lv st σ am tm := by
  intro ls H k9 n9 hl hR h1 h2
  obtain ⟨j, hj⟩ := List.getElem?_of_mem (hc_look_mem hv)
  exact lv_iinc hC.1 hC.2.1 hd hl hj he hn rfl (fun ls' hl' => k ls' H k9 n9 hl' hR h1 h2)
theorem hz_iadd (hC : hc_C V E cc nL own ret d oc σe Y X) {x y : Int32} (hd : decode cc pc = .ok (.iadd, 1))  (k : hc_Az V E nL X (pc + 1) lv (.int (x + y) :: st) σ am tm) : hc_Az V E nL X pc lv (.int y :: .int x :: st) σ am tm :=
  fun ls H k9 n9 hl hR h1 h2 => lv_iadd hC.1 hC.2.1 hd (k ls H k9 n9 hl hR h1 h2)
theorem hz_isub (hC : hc_C V E cc nL own ret d oc σe Y X) {x y : Int32} (hd : decode cc pc = .ok (.isub, 1))  (k : hc_Az V E nL X (pc + 1) lv (.int (x - y) :: st) σ am tm) : hc_Az V E nL X pc lv (.int y :: .int x :: st) σ am tm :=
  fun ls H k9 n9 hl hR h1 h2 => lv_isub hC.1 hC.2.1 hd (k ls H k9 n9 hl hR h1 h2)
theorem hz_imul (hC : hc_C V E cc nL own ret d oc σe Y X) {x y : Int32} (hd : decode cc pc = .ok (.imul, 1))  (k : hc_Az V E nL X (pc + 1) lv (.int (x * y) :: st) σ am tm) : hc_Az V E nL X pc lv (.int y :: .int x :: st) σ am tm :=
  fun ls H k9 n9 hl hR h1 h2 => lv_imul hC.1 hC.2.1 hd (k ls H k9 n9 hl hR h1 h2)
theorem hz_iand (hC : hc_C V E cc nL own ret d oc σe Y X) {x y : Int32} (hd : decode cc pc = .ok (.iand, 1))  (k : hc_Az V E nL X (pc + 1) lv (.int (x &&& y) :: st) σ am tm) : hc_Az V E nL X pc lv (.int y :: .int x :: st) σ am tm :=
  fun ls H k9 n9 hl hR h1 h2 => lv_iand hC.1 hC.2.1 hd (k ls H k9 n9 hl hR h1 h2)
theorem hz_ior (hC : hc_C V E cc nL own ret d oc σe Y X) {x y : Int32} (hd : decode cc pc = .ok (.ior, 1))  (k : hc_Az V E nL X (pc + 1) lv (.int (x ||| y) :: st) σ am tm) : hc_Az V E nL X pc lv (.int y :: .int x :: st) σ am tm :=
  fun ls H k9 n9 hl hR h1 h2 => lv_ior hC.1 hC.2.1 hd (k ls H k9 n9 hl hR h1 h2)
theorem hz_ixor (hC : hc_C V E cc nL own ret d oc σe Y X) {x y : Int32} (hd : decode cc pc = .ok (.ixor, 1))  (k : hc_Az V E nL X (pc + 1) lv (.int (x ^^^ y) :: st) σ am tm) : hc_Az V E nL X pc lv (.int y :: .int x :: st) σ am tm :=
  fun ls H k9 n9 hl hR h1 h2 => lv_ixor hC.1 hC.2.1 hd (k ls H k9 n9 hl hR h1 h2)
theorem hz_ishl (hC : hc_C V E cc nL own ret d oc σe Y X) {x y : Int32} (hd : decode cc pc = .ok (.ishl, 1))  (k : hc_Az V E nL X (pc + 1) lv (.int (jshl x y) :: st) σ am tm) : hc_Az V E nL X pc lv (.int y :: .int x :: st) σ am tm :=
  fun ls H k9 n9 hl hR h1 h2 => lv_ishl hC.1 hC.2.1 hd (k ls H k9 n9 hl hR h1 h2)
theorem hz_ishr (hC : hc_C V E cc nL own ret d oc σe Y X) {x y : Int32} (hd : decode cc pc = .ok (.ishr, 1))  (k : hc_Az V E nL X (pc + 1) lv (.int (jshr x y) :: st) σ am tm) : hc_Az V E nL X pc lv (.int y :: .int x :: st) σ am tm :=
  fun ls H k9 n9 hl hR h1 h2 => lv_ishr hC.1 hC.2.1 hd (k ls H k9 n9 hl hR h1 h2)
theorem hz_iushr (hC : hc_C V E cc nL own ret d oc σe Y X) {x y : Int32} (hd : decode cc pc = .ok (.iushr, 1))  (k : hc_Az V E nL X (pc + 1) lv (.int (jush x y) :: st) σ am tm) : hc_Az V E nL X pc lv (.int y :: .int x :: st) σ am tm :=
  fun ls H k9 n9 hl hR h1 h2 => lv_iushr hC.1 hC.2.1 hd rfl (k ls H k9 n9 hl hR h1 h2)
theorem hz_idiv (hC : hc_C V E cc nL own ret d oc σe Y X) {x y : Int32} (hd : decode cc pc = .ok (.idiv, 1)) (hne : ¬ y = 0) (k : hc_Az V E nL X (pc + 1) lv (.int (x / y) :: st) σ am tm) : hc_Az V E nL X pc lv (.int y :: .int x :: st) σ am tm :=
  fun ls H k9 n9 hl hR h1 h2 => lv_idiv hC.1 hC.2.1 hd hne (k ls H k9 n9 hl hR h1 h2)
theorem hz_irem (hC : hc_C V E cc nL own ret d oc σe Y X) {x y : Int32} (hd : decode cc pc = .ok (.irem, 1)) (hne : ¬ y = 0) (k : hc_Az V E nL X (pc + 1) lv (.int (jrem x y) :: st) σ am tm) : hc_Az V E nL X pc lv (.int y :: .int x :: st) σ am tm :=
  fun ls H k9 n9 hl hR h1 h2 => lv_irem hC.1 hC.2.1 hd hne (k ls H k9 n9 hl hR h1 h2)
theorem hz_ineg (hC : hc_C V E cc nL own ret d oc σe Y X) {x : Int32} (hd : decode cc pc = .ok (.ineg, 1))  (k : hc_Az V E nL X (pc + 1) lv (.int (-x) :: st) σ am tm) : hc_Az V E nL X pc lv (.int x :: st) σ am tm :=
  fun ls H k9 n9 hl hR h1 h2 => lv_ineg hC.1 hC.2.1 hd (k ls H k9 n9 hl hR h1 h2)
theorem hz_ladd (hC : hc_C V E cc nL own ret d oc σe Y X) {x y : Int64} (hd : decode cc pc = .ok (.ladd, 1))  (k : hc_Az V E nL X (pc + 1) lv (.long (x + y) :: st) σ am tm) : hc_Az V E nL X pc lv (.long y :: .long x :: st) σ am tm :=
  fun ls H k9 n9 hl hR h1 h2 => lv_ladd hC.1 hC.2.1 hd (k ls H k9 n9 hl hR h1 h2)
theorem hz_lmul (hC : hc_C V E cc nL own ret d oc σe Y X) {x y : Int64} (hd : decode cc pc = .ok (.lmul, 1))  (k : hc_Az V E nL X (pc + 1) lv (.long (x * y) :: st) σ am tm) : hc_Az V E nL X pc lv (.long y :: .long x :: st) σ am tm :=
  fun ls H k9 n9 hl hR h1 h2 => lv_lmul hC.1 hC.2.1 hd (k ls H k9 n9 hl hR h1 h2)
theorem hz_land (hC : hc_C V E cc nL own ret d oc σe Y X) {x y : Int64} (hd : decode cc pc = .ok (.land, 1))  (k : hc_Az V E nL X (pc + 1) lv (.long (x &&& y) :: st) σ am tm) : hc_Az V E nL X pc lv (.long y :: .long x :: st) σ am tm :=
  fun ls H k9 n9 hl hR h1 h2 => lv_land hC.1 hC.2.1 hd (k ls H k9 n9 hl hR h1 h2)
theorem hz_ldiv (hC : hc_C V E cc nL own ret d oc σe Y X) {x y : Int64} (hd : decode cc pc = .ok (.ldiv, 1)) (hne : ¬ y = 0) (k : hc_Az V E nL X (pc + 1) lv (.long (x / y) :: st) σ am tm) : hc_Az V E nL X pc lv (.long y :: .long x :: st) σ am tm :=
  fun ls H k9 n9 hl hR h1 h2 => lv_ldiv hC.1 hC.2.1 hd hne (k ls H k9 n9 hl hR h1 h2)
theorem hz_lrem (hC : hc_C V E cc nL own ret d oc σe Y X) {x y : Int64} (hd : decode cc pc = .ok (.lrem, 1)) (hne : ¬ y = 0) (k : hc_Az V E nL X (pc + 1) lv (.long (jlrem x y) :: st) σ am tm) : hc_Az V E nL X pc lv (.long y :: .long x :: st) σ am tm :=
  fun ls H k9 n9 hl hR h1 h2 => lv_lrem hC.1 hC.2.1 hd hne (k ls H k9 n9 hl hR h1 h2)
theorem hz_lushr (hC : hc_C V E cc nL own ret d oc σe Y X) {x : Int64} {y : Int32} (hd : decode cc pc = .ok (.lushr, 1))  (k : hc_Az V E nL X (pc + 1) lv (.long (jlush x y) :: st) σ am tm) : hc_Az V E nL X pc lv (.int y :: .long x :: st) σ am tm :=
  fun ls H k9 n9 hl hR h1 h2 => lv_lushr hC.1 hC.2.1 hd rfl (k ls H k9 n9 hl hR h1 h2)
theorem hz_lshr (hC : hc_C V E cc nL own ret d oc σe Y X) {x : Int64} {y : Int32} (hd : decode cc pc = .ok (.lshr, 1))  (k : hc_Az V E nL X (pc + 1) lv (.long (jlshr x y) :: st) σ am tm) : hc_Az V E nL X pc lv (.int y :: .long x :: st) σ am tm :=
  fun ls H k9 n9 hl hR h1 h2 => lv_lshr hC.1 hC.2.1 hd rfl (k ls H k9 n9 hl hR h1 h2)
theorem hz_lcmp (hC : hc_C V E cc nL own ret d oc σe Y X) {x y : Int64} (hd : decode cc pc = .ok (.lcmp, 1))  (k : hc_Az V E nL X (pc + 1) lv (.int (lg_cmp x y) :: st) σ am tm) : hc_Az V E nL X pc lv (.long y :: .long x :: st) σ am tm :=
  fun ls H k9 n9 hl hR h1 h2 => W.lcmp hC.1 hC.2.1 hd (k ls H k9 n9 hl hR h1 h2)
theorem hz_i2l (hC : hc_C V E cc nL own ret d oc σe Y X) {x : Int32} (hd : decode cc pc = .ok (.i2l, 1))  (k : hc_Az V E nL X (pc + 1) lv (.long x.toInt64 :: st) σ am tm) : hc_Az V E nL X pc lv (.int x :: st) σ am tm :=
  fun ls H k9 n9 hl hR h1 h2 => lv_i2l hC.1 hC.2.1 hd rfl (k ls H k9 n9 hl hR h1 h2)
theorem hz_l2i (hC : hc_C V E cc nL own ret d oc σe Y X) {x : Int64} (hd : decode cc pc = .ok (.l2i, 1))  (k : hc_Az V E nL X (pc + 1) lv (.int x.toInt32 :: st) σ am tm) : hc_Az V E nL X pc lv (.long x :: st) σ am tm :=
  fun ls H k9 n9 hl hR h1 h2 => lv_l2i hC.1 hC.2.1 hd rfl (k ls H k9 n9 hl hR h1 h2)
theorem hz_i2b (hC : hc_C V E cc nL own ret d oc σe Y X) {x : Int32} (hd : decode cc pc = .ok (.i2b, 1))  (k : hc_Az V E nL X (pc + 1) lv (.int x.toInt8.toInt32 :: st) σ am tm) : hc_Az V E nL X pc lv (.int x :: st) σ am tm :=
  fun ls H k9 n9 hl hR h1 h2 => lv_i2b hC.1 hC.2.1 hd rfl (k ls H k9 n9 hl hR h1 h2)
theorem hz_i2s (hC : hc_C V E cc nL own ret d oc σe Y X) {x : Int32} (hd : decode cc pc = .ok (.i2s, 1))  (k : hc_Az V E nL X (pc + 1) lv (.int x.toInt16.toInt32 :: st) σ am tm) : hc_Az V E nL X pc lv (.int x :: st) σ am tm :=
  fun ls H k9 n9 hl hR h1 h2 => lv_i2s hC.1 hC.2.1 hd rfl (k ls H k9 n9 hl hR h1 h2)
theorem hz_dup (hC : hc_C V E cc nL own ret d oc σe Y X) {u : Value} (hd : decode cc pc = .ok (.dup, 1)) (hu : u.category = 1) (k : hc_Az V E nL X (pc + 1) lv (u :: u :: st) σ am tm) : hc_Az V E nL X pc lv (u :: st) σ am tm :=
  fun ls H k9 n9 hl hR h1 h2 => lv_dup hC.1 hC.2.1 hd hu (k ls H k9 n9 hl hR h1 h2)
theorem hz_pop (hC : hc_C V E cc nL own ret d oc σe Y X) {u : Value} (hd : decode cc pc = .ok (.pop, 1)) (hu : u.category = 1) (k : hc_Az V E nL X (pc + 1) lv (st) σ am tm) : hc_Az V E nL X pc lv (u :: st) σ am tm :=
  fun ls H k9 n9 hl hR h1 h2 => lv_pop hC.1 hC.2.1 hd hu (k ls H k9 n9 hl hR h1 h2)
theorem hz_dup_x1 (hC : hc_C V E cc nL own ret d oc σe Y X) {u v : Value} (hd : decode cc pc = .ok (.dup_x1, 1)) (hu : u.category = 1) (hv : v.category = 1) (k : hc_Az V E nL X (pc + 1) lv (u :: v :: u :: st) σ am tm) : hc_Az V E nL X pc lv (u :: v :: st) σ am tm :=
  fun ls H k9 n9 hl hR h1 h2 => lv_dup_x1 hC.1 hC.2.1 hd hu hv (k ls H k9 n9 hl hR h1 h2)
theorem hz_dup2 (hC : hc_C V E cc nL own ret d oc σe Y X) {u v : Value} (hd : decode cc pc = .ok (.dup2, 1)) (hu : u.category = 1) (hv : v.category = 1) (k : hc_Az V E nL X (pc + 1) lv (u :: v :: u :: v :: st) σ am tm) : hc_Az V E nL X pc lv (u :: v :: st) σ am tm :=
  fun ls H k9 n9 hl hR h1 h2 => lv_dup2_11 hC.1 hC.2.1 hd hu hv (k ls H k9 n9 hl hR h1 h2)
theorem hz_if_eq (hC : hc_C V E cc nL own ret d oc σe Y X) {x : Int32} {off : Int} (tgt : Nat) (hd : decode cc pc = .ok (.ifCond .eq off, 3)) (ht : (pc : Int) + off = (tgt : Int)) (kt : x = 0 → hc_Az V E nL X tgt lv st σ am tm) (kf : ¬ x = 0 → hc_Az V E nL X (pc + 3) lv st σ am tm) : hc_Az V E nL X pc lv (.int x :: st) σ am tm :=
  fun ls H k9 n9 hl hR h1 h2 => lv_if_eq hC.1 hC.2.1 hd ht (fun z => kt z ls H k9 n9 hl hR h1 h2) (fun z => kf z ls H k9 n9 hl hR h1 h2)
theorem hz_if_ne (hC : hc_C V E cc nL own ret d oc σe Y X) {x : Int32} {off : Int} (tgt : Nat) (hd : decode cc pc = .ok (.ifCond .ne off, 3)) (ht : (pc : Int) + off = (tgt : Int)) (kt : ¬ x = 0 → hc_Az V E nL X tgt lv st σ am tm) (kf : x = 0 → hc_Az V E nL X (pc + 3) lv st σ am tm) : hc_Az V E nL X pc lv (.int x :: st) σ am tm :=
  fun ls H k9 n9 hl hR h1 h2 => lv_if_ne hC.1 hC.2.1 hd ht (fun z => kt z ls H k9 n9 hl hR h1 h2) (fun z => kf z ls H k9 n9 hl hR h1 h2)
theorem hz_if_lt (hC : hc_C V E cc nL own ret d oc σe Y X) {x : Int32} {off : Int} (tgt : Nat) (hd : decode cc pc = .ok (.ifCond .lt off, 3)) (ht : (pc : Int) + off = (tgt : Int)) (kt : x < 0 → hc_Az V E nL X tgt lv st σ am tm) (kf : ¬ x < 0 → hc_Az V E nL X (pc + 3) lv st σ am tm) : hc_Az V E nL X pc lv (.int x :: st) σ am tm :=
  fun ls H k9 n9 hl hR h1 h2 => lv_if_lt hC.1 hC.2.1 hd ht (fun z => kt z ls H k9 n9 hl hR h1 h2) (fun z => kf z ls H k9 n9 hl hR h1 h2)
theorem hz_if_ge (hC : hc_C V E cc nL own ret d oc σe Y X) {x : Int32} {off : Int} (tgt : Nat) (hd : decode cc pc = .ok (.ifCond .ge off, 3)) (ht : (pc : Int) + off = (tgt : Int)) (kt : 0 ≤ x → hc_Az V E nL X tgt lv st σ am tm) (kf : ¬ 0 ≤ x → hc_Az V E nL X (pc + 3) lv st σ am tm) : hc_Az V E nL X pc lv (.int x :: st) σ am tm :=
  fun ls H k9 n9 hl hR h1 h2 => lv_if_ge hC.1 hC.2.1 hd ht (fun z => kt z ls H k9 n9 hl hR h1 h2) (fun z => kf z ls H k9 n9 hl hR h1 h2)
theorem hz_if_gt (hC : hc_C V E cc nL own ret d oc σe Y X) {x : Int32} {off : Int} (tgt : Nat) (hd : decode cc pc = .ok (.ifCond .gt off, 3)) (ht : (pc : Int) + off = (tgt : Int)) (kt : 0 < x → hc_Az V E nL X tgt lv st σ am tm) (kf : ¬ 0 < x → hc_Az V E nL X (pc + 3) lv st σ am tm) : hc_Az V E nL X pc lv (.int x :: st) σ am tm :=
  fun ls H k9 n9 hl hR h1 h2 => lv_if_gt hC.1 hC.2.1 hd ht (fun z => kt z ls H k9 n9 hl hR h1 h2) (fun z => kf z ls H k9 n9 hl hR h1 h2)
theorem hz_if_le (hC : hc_C V E cc nL own ret d oc σe Y X) {x : Int32} {off : Int} (tgt : Nat) (hd : decode cc pc = .ok (.ifCond .le off, 3)) (ht : (pc : Int) + off = (tgt : Int)) (kt : x ≤ 0 → hc_Az V E nL X tgt lv st σ am tm) (kf : ¬ x ≤ 0 → hc_Az V E nL X (pc + 3) lv st σ am tm) : hc_Az V E nL X pc lv (.int x :: st) σ am tm :=
  fun ls H k9 n9 hl hR h1 h2 => lv_if_le hC.1 hC.2.1 hd ht (fun z => kt z ls H k9 n9 hl hR h1 h2) (fun z => kf z ls H k9 n9 hl hR h1 h2)
theorem hz_icmp_eq (hC : hc_C V E cc nL own ret d oc σe Y X) {x y : Int32} {off : Int} (tgt : Nat) (hd : decode cc pc = .ok (.if_icmp .eq off, 3)) (ht : (pc : Int) + off = (tgt : Int)) (kt : x = y → hc_Az V E nL X tgt lv st σ am tm) (kf : ¬ x = y → hc_Az V E nL X (pc + 3) lv st σ am tm) : hc_Az V E nL X pc lv (.int y :: .int x :: st) σ am tm :=
  fun ls H k9 n9 hl hR h1 h2 => lv_icmp_eq hC.1 hC.2.1 hd ht (fun z => kt z ls H k9 n9 hl hR h1 h2) (fun z => kf z ls H k9 n9 hl hR h1 h2)
theorem hz_icmp_ne (hC : hc_C V E cc nL own ret d oc σe Y X) {x y : Int32} {off : Int} (tgt : Nat) (hd : decode cc pc = .ok (.if_icmp .ne off, 3)) (ht : (pc : Int) + off = (tgt : Int)) (kt : ¬ x = y → hc_Az V E nL X tgt lv st σ am tm) (kf : x = y → hc_Az V E nL X (pc + 3) lv st σ am tm) : hc_Az V E nL X pc lv (.int y :: .int x :: st) σ am tm :=
  fun ls H k9 n9 hl hR h1 h2 => lv_icmp_ne hC.1 hC.2.1 hd ht (fun z => kt z ls H k9 n9 hl hR h1 h2) (fun z => kf z ls H k9 n9 hl hR h1 h2)
theorem hz_icmp_lt (hC : hc_C V E cc nL own ret d oc σe Y X) {x y : Int32} {off : Int} (tgt : Nat) (hd : decode cc pc = .ok (.if_icmp .lt off, 3)) (ht : (pc : Int) + off = (tgt : Int)) (kt : x < y → hc_Az V E nL X tgt lv st σ am tm) (kf : ¬ x < y → hc_Az V E nL X (pc + 3) lv st σ am tm) : hc_Az V E nL X pc lv (.int y :: .int x :: st) σ am tm :=
  fun ls H k9 n9 hl hR h1 h2 => lv_icmp_lt hC.1 hC.2.1 hd ht (fun z => kt z ls H k9 n9 hl hR h1 h2) (fun z => kf z ls H k9 n9 hl hR h1 h2)
theorem hz_icmp_ge (hC : hc_C V E cc nL own ret d oc σe Y X) {x y : Int32} {off : Int} (tgt : Nat) (hd : decode cc pc = .ok (.if_icmp .ge off, 3)) (ht : (pc : Int) + off = (tgt : Int)) (kt : y ≤ x → hc_Az V E nL X tgt lv st σ am tm) (kf : ¬ y ≤ x → hc_Az V E nL X (pc + 3) lv st σ am tm) : hc_Az V E nL X pc lv (.int y :: .int x :: st) σ am tm :=
  fun ls H k9 n9 hl hR h1 h2 => lv_icmp_ge hC.1 hC.2.1 hd ht (fun z => kt z ls H k9 n9 hl hR h1 h2) (fun z => kf z ls H k9 n9 hl hR h1 h2)
theorem hz_icmp_gt (hC : hc_C V E cc nL own ret d oc σe Y X) {x y : Int32} {off : Int} (tgt : Nat) (hd : decode cc pc = .ok (.if_icmp .gt off, 3)) (ht : (pc : Int) + off = (tgt : Int)) (kt : y < x → hc_Az V E nL X tgt lv st σ am tm) (kf : ¬ y < x → hc_Az V E nL X (pc + 3) lv st σ am tm) : hc_Az V E nL X pc lv (.int y :: .int x :: st) σ am tm :=
  fun ls H k9 n9 hl hR h1 h2 => lv_icmp_gt hC.1 hC.2.1 hd ht (fun z => kt z ls H k9 n9 hl hR h1 h2) (fun z => kf z ls H k9 n9 hl hR h1 h2)
theorem hz_icmp_le (hC : hc_C V E cc nL own ret d oc σe Y X) {x y : Int32} {off : Int} (tgt : Nat) (hd : decode cc pc = .ok (.if_icmp .le off, 3)) (ht : (pc : Int) + off = (tgt : Int)) (kt : x ≤ y → hc_Az V E nL X tgt lv st σ am tm) (kf : ¬ x ≤ y → hc_Az V E nL X (pc + 3) lv st σ am tm) : hc_Az V E nL X pc lv (.int y :: .int x :: st) σ am tm :=
  fun ls H k9 n9 hl hR h1 h2 => lv_icmp_le hC.1 hC.2.1 hd ht (fun z => kt z ls H k9 n9 hl hR h1 h2) (fun z => kf z ls H k9 n9 hl hR h1 h2)
theorem hz_goto (hC : hc_C V E cc nL own ret d oc σe Y X) {off : Int} (tgt : Nat) (hd : decode cc pc = .ok (.goto off, 3)) (ht : (pc : Int) + off = (tgt : Int)) (k : hc_Az V E nL X tgt lv st σ am tm) : hc_Az V E nL X pc lv st σ am tm :=
  fun ls H k9 n9 hl hR h1 h2 => lv_goto hC.1 hC.2.1 hd ht (k ls H k9 n9 hl hR h1 h2)
theorem hz_lookup (hC : hc_C V E cc nL own ret d oc σe Y X) {dflt : Int} {ps : Array (Int × Int)} {len : Nat} {x : Int32} {off : Int} (tgt : Nat) (hd : decode cc pc = .ok (.lookupswitch dflt ps, len)) (hp : (ps.toList.zip (ps.toList.drop 1)).all (fun (a, next) => a.1 < next.1) = true) (ho : Op.lookupswitch.offset ps.toList dflt x.toInt = off) (ht : (pc : Int) + off = (tgt : Int)) (k : hc_Az V E nL X tgt lv st σ am tm) : hc_Az V E nL X pc lv (.int x :: st) σ am tm :=
  fun ls H k9 n9 hl hR h1 h2 => lv_lookup hC.1 hC.2.1 hd hp ho ht (k ls H k9 n9 hl hR h1 h2)
theorem hz_tableIn (hC : hc_C V E cc nL own ret d oc σe Y X) {dflt lo hi : Int} {offs : Array Int} {len : Nat} {x : Int32} {off : Int} (tgt : Nat) (hd : decode cc pc = .ok (.tableswitch dflt lo hi offs, len)) (g1 : ¬ x.toInt < lo) (g2 : ¬ hi < x.toInt) (ho : offs[(x.toInt - lo).toNat]? = some off) (ht : (pc : Int) + off = (tgt : Int)) (k : hc_Az V E nL X tgt lv st σ am tm) : hc_Az V E nL X pc lv (.int x :: st) σ am tm :=
  fun ls H k9 n9 hl hR h1 h2 => lv_tableIn hC.1 hC.2.1 hd g1 g2 ho ht (k ls H k9 n9 hl hR h1 h2)
theorem hz_tableOut (hC : hc_C V E cc nL own ret d oc σe Y X) {dflt lo hi : Int} {offs : Array Int} {len : Nat} {x : Int32} (tgt : Nat) (hd : decode cc pc = .ok (.tableswitch dflt lo hi offs, len)) (g1 : x.toInt < lo ∨ hi < x.toInt) (ht : (pc : Int) + dflt = (tgt : Int)) (k : hc_Az V E nL X tgt lv st σ am tm) : hc_Az V E nL X pc lv (.int x :: st) σ am tm :=
  fun ls H k9 n9 hl hR h1 h2 => lv_tableOut hC.1 hC.2.1 hd g1 ht (k ls H k9 n9 hl hR h1 h2)
theorem hz_of (k : hc_At V E nL X pc lv st σ am tm) : hc_Az V E nL X pc lv st σ am tm := fun ls H k9 n9 hl hR h1 h2 => k ls H [] k9 n9 hl hR h1 h2
end HCRZ
section HZ1
variable {V : hc_V} {E : hc_E} {cc : ByteArray} {nL d pc : Nat} {own : String} {ret : Option FieldType} {oc : hc_Oc} {σe : hc_St} {Y : hc_Y} {X : hc_X} {lv lv' : List (Nat × Value)} {st : List Value} {σ : hc_St} {am : Nat → Nat → Nat} {tm : hc_T}
theorem hz_get (hC : hc_C V E cc nL own ret d oc σe Y X) {C : String} {T : u_T} {N ci idx : Nat} {v : Value} (o f : Nat) (hd : decode cc pc = .ok (.getfield idx, 3)) (hlk : Cond.fieldLink own idx C (T f).2.1 (T f).2.2.1 ∈ lw_all) (hin : ∀ w ∈ u_ws C T N, w ∈ lw_all) (hcl : V.1[ci]? = some (C, T, N)) (hT : (T f).1 = C) (ho : o < V.2.1.1) (hci : V.2.1.2.1 o = ci) (hN : V.2.1.2.2.1 o = N) (hf : f < N) (hv : hc_fv V.2.1 E σ am o f = v)
    (k : hc_Az V E nL X (pc + 3) lv (v :: st) σ am tm) : hc_Az V E nL X pc lv (.ref (E.2.1 o) :: st) σ am tm := by
  intro ls H k9 n9 hl hR h1 h2
  subst hv; subst hci
  exact va_get (Ts := lw_all) (T := T) (C := C) hC.1 hC.2.1 hC.2.2.2.2.1 hin hC.2.2.2.1 hC.2.2.2.2.2.2.2.1 hR.1 o (hc_ws_o ho) hcl f hf (hC.2.2.2.2.1 _ hlk) (fun x hx => by rw [hT] at hx; exact hx) (hc_fs_at (by rw [hN]; exact hf)) hd (k ls H k9 n9 hl hR h1 h2)
end HZ1
section HZ2
variable {V : hc_V} {E : hc_E} {cc : ByteArray} {nL d pc : Nat} {own : String} {ret : Option FieldType} {oc : hc_Oc} {σe : hc_St} {Y : hc_Y} {X : hc_X} {lv lv' : List (Nat × Value)} {st : List Value} {σ : hc_St} {am : Nat → Nat → Nat} {tm : hc_T} {C : String} {T : u_T} {N idx o f : Nat}
theorem hz_gI (hC : hc_C V E cc nL own ret d oc σe Y X) (hF : hc_F V C T N o f 0) (hd : decode cc pc = .ok (.getfield idx, 3)) (hlk : Cond.fieldLink own idx C (T f).2.1 (T f).2.2.1 ∈ lw_all) (k : hc_Az V E nL X (pc + 3) lv (.int (gI σ o f) :: st) σ am tm) : hc_Az V E nL X pc lv (.ref (E.2.1 o) :: st) σ am tm :=
  hz_get hC o f hd hlk hF.1 hF.2.1 hF.2.2.1 hF.2.2.2.1 rfl hF.2.2.2.2.1 hF.2.2.2.2.2.1 (hc_fvI hF.2.2.2.2.2.2) k
end HZ2
section HZ3
variable {V : hc_V} {E : hc_E} {cc : ByteArray} {nL d pc : Nat} {own : String} {ret : Option FieldType} {oc : hc_Oc} {σe : hc_St} {Y : hc_Y} {X : hc_X} {lv lv' : List (Nat × Value)} {st : List Value} {σ : hc_St} {am : Nat → Nat → Nat} {tm : hc_T}
/-- a contract out of a walk of the body -/
theorem hz_enter {l : Launch} {y : MethodName} {A : Nat → Prop} {a : List Value} {rb : List Nat} (lv0 : List (Nat × Value)) (hy : plainName y.cls = true) (hown : y.cls = own) (hV : hc_St1 V) (hnd : V.2.1.2.2.2.2.2.Nodup) (he : ∀ m : MethodId, ∃ ls : Array Slot, entryFrame m a.toArray nL = F0 m 0 ls [] ∧ lv_has ls nL lv0)
    (body : ∀ X : hc_X, hc_C V E cc nL own ret d oc σe (l, A, am, rb) X → X.2.2.2.2.2.2.2.2.2.1.exceptionTable.isEmpty = true → va_P E.1 V.1 (hc_ws V.2.1 E σ am []) X.2.2.2.2.1.heap → hc_Az V E nL X 0 lv0 [] σ am []) : hc_M l V y (ws_ y cc nL ret) d E A a am rb σ oc σe := by
  intro hnt
  refine hc_ofW (cc := cc) (maxL := nL) (ret := ret) hy rfl ?_
  intro p e s m args below meth c s₁ B hml hem hv
  obtain ⟨rfl, hP, hD, hK, hJ, hA⟩ := hv
  have hts := atoms_spec (ws := ws_ y cc nL ret) B.pre
  have hts : ∀ w ∈ lw_all, w.before _ s = true := fun w h => hts w (List.mem_cons_of_mem _ h)
  have hfc : s.vm.findClass own = some m.cls := by rw [← hown]; exact findClass_of_methodNamed B.named
  obtain ⟨ls, e1, e2⟩ := he m
  rw [e1]
  exact body (p, l, e, _, s, m, a.toArray, below, meth, c, A, _, am, rb) ⟨B.exec, B.bytes, hml, hfc, hts, B.returns, B.notSynchronized, hK, hJ, hV, hA, rfl, rfl, hnd, rfl, rfl, rfl, rfl, rfl, hnt⟩ hem hP ls s.heap 0 0 e2 ⟨hP, hD, va_S.rf, fun _ _ _ => rfl⟩ rfl rfl
theorem hz_callS (hC : hc_C hc_V0 E cc nL own ret d oc σe Y X) {C : String} {idx : Nat} {y : MethodName} {bytes : ByteArray} {maxL : Nat} {r : Option FieldType} {v : Option Value} {σ1 : hc_St} (As rest : List Value) (hd : decode cc pc = .ok (.invokestatic idx, 3)) (hlk : Cond.methodLink own idx y ∈ lw_all) (hins : Cond.static y ∈ lw_all) (hini : Cond.initialized C ∈ lw_all) (hcode : Cond.code y bytes maxL r ∈ lw_all) (hy : C ≠ "java/lang/invoke/MethodHandle" ∧ C ≠ "java/lang/invoke/VarHandle") (hyC : y.cls = C) (hlen : (parseMethodDescriptor y.desc).map (fun sig => sig.parameters.length) = some As.length) (hw : (rest.map fun v => v.category).sum + (maxL + 11) ≤ 46) (hd1 : 1 ≤ d)
    (hM : hc_N0 Y.1 y (ws_ y bytes maxL r) (d - 1) E Y.2.1 As am σ (.inl v) σ1) (hst : st = As.reverse ++ rest)
    (k : hc_Az hc_V0 E nL X (pc + 3) lv (v.toList ++ rest) σ1 am []) : hc_Az hc_V0 E nL X pc lv st σ am [] := by
  intro ls H k9 n9 hl hR h1 h2 T9 hT S9
  subst hst
  have hws := hc_words hC.2.2.2.2.1 hcode
  have hfr := hC.2.2.2.2.2.2.2.2.2.2.2.1
  have hlo := hC.2.2.2.2.2.2.2.2.2.2.2.2.1
  have hM1 := hM
  unfold hc_N0 at hM1
  have hM1 := hM1 hC.2.2.2.2.2.2.2.2.2.2.2.2.2.2.2.2.2.2.2
  rw [← hC.2.2.2.2.2.2.2.2.2.2.2.2.2.2.2.1] at hM1
  obtain ⟨oo, t, B, L, kk, nn, vm1, g1, mk, S1, e1, e2, hq, hK, hL, hr, -⟩ := hc_runS (Wd := (rest.map fun v => v.category).sum) S9 hC.1 hC.2.2.2.1 (hC.2.2.2.2.1 _ hlk) (hC.2.2.2.2.1 _ hins) (hC.2.2.2.2.1 _ hcode) (by rw [hyC]; exact hy) hM1 (by show d - 1 + 1 ≤ _; omega) (by show _ + _ + 46 * (d - 1) ≤ _; omega) hws List.mem_cons_self (by rw [hyC]; exact hC.2.2.2.2.1 _ hini) (g := F0 X.2.2.2.2.2.1 pc ls (As.reverse ++ rest)) rfl (by rw [hC.2.2.1]; exact hl.1) (argsL := As) (rest := rest) (fun sig hs => by rw [hs] at hlen; exact (Option.some.inj hlen).symm) rfl (by simp [JFrame.monitorRoom]) (by rw [hC.2.1]; exact hd) (by show k9 + σ.2.2.2.1 ≤ _; omega) (by show n9 + σ.2.2.2.2 ≤ _; omega) (fun vm1 g1 mk hW => ⟨rfl, hc_pre hC hR (U := (T9.setVm vm1).calling g1 mk _) (by exact hT) hW⟩)
  have hLn : L = [] := by
    cases L with
    | nil => rfl
    | cons q L => exact (hL q List.mem_cons_self).elim
  subst hLn
  obtain ⟨am1, a1, a2, a3⟩ := hc_behind (rb' := []) (ls := ls) (k9 := k9) (n9 := n9) hC hR hT (fun i h => by cases h) (U := (T9.setVm vm1).calling g1 mk As.toArray) (by exact hT) hq e1 (L := []) (fun q h => by cases h)
  have ea : am1 = am := funext fun i => funext fun j => a3 i j (by simp)
  subst ea
  obtain ⟨t1, b1, b2⟩ := k ls B.heap (k9 + kk) (n9 + nn) hl a2 (by have := hK.1; omega) (by have := hK.2; omega) B rfl S1
  exact ⟨t1, hr v a1 t1 b1, b2⟩
theorem hz_M0 {l : Launch} {y : MethodName} {ws : List Cond} {d : Nat} {E : hc_E} {A : Nat → Prop} {a : List Value} {am : Nat → Nat → Nat} {σ σ' : hc_St} {rt : Int32 → Option Value} {r : Nat × Int32 × hc_St} (h : hc_N0 l y ws d E A a am σ (hc_ot rt r) σ') (z : r.1 = 0) : hc_N0 l y ws d E A a am σ (.inl (rt r.2.1)) σ' := by
  have h1 : hc_ot rt r = .inl (rt r.2.1) := if_pos z
  rw [← h1]; exact h
end HZ3
section HZ4
variable {V : hc_V} {E : hc_E} {cc : ByteArray} {nL d pc : Nat} {own : String} {ret : Option FieldType} {oc : hc_Oc} {σe : hc_St} {Y : hc_Y} {X : hc_X} {lv lv' : List (Nat × Value)} {st : List Value} {σ : hc_St} {am : Nat → Nat → Nat} {tm : hc_T} {C : String} {T : u_T} {N idx o f : Nat}
/-- a contract out of a walk of the body -/
theorem hz_enter2 {l : Launch} {y : MethodName} {A : Nat → Prop} {a : List Value} {rb : List Nat} (lv0 : List (Nat × Value)) (hy : plainName own = true) (hown : y.cls = own) (hV : hc_St1 V) (hnd : V.2.1.2.2.2.2.2.Nodup) (hlv : lv_args 0 a = lv0) (hle : (lg_sl a).length ≤ nL)
    (body : ∀ X : hc_X, hc_C V E cc nL own ret d oc σe (l, A, am, rb) X → X.2.2.2.2.2.2.2.2.2.1.exceptionTable.isEmpty = true → va_P E.1 V.1 (hc_ws V.2.1 E σ am []) X.2.2.2.2.1.heap → hc_Az V E nL X 0 lv0 [] σ am []) : hc_M l V y (ws_ y cc nL ret) d E A a am rb σ oc σe := by
  subst hlv
  refine hz_enter _ (by rw [hown]; exact hy) hown hV hnd (fun m => ⟨_, ?_, lv_entry a hle⟩) body
  rw [lg_entry_eq]
/-- an exception of kind 4, thrown by the method itself -/
theorem hz_throw4 {ia ic : Nat} (hC : hc_C hc_V0 E cc nL own ret d (.inr 4) (pU σ hxC hxS) Y X) (hem : X.2.2.2.2.2.2.2.2.2.1.exceptionTable.isEmpty = true) (hP0 : va_P E.1 hc_V0.1 (hc_ws hc_V0.2.1 E σ am []) X.2.2.2.2.1.heap) (hr : hxr σ = true) (d0 : decode cc pc = .ok (.new ia, 3)) (d3 : decode cc (pc + 3) = .ok (.dup, 1)) (d4 : decode cc (pc + 4) = .ok (.invokespecial ic, 3)) (d7 : decode cc (pc + 7) = .ok (.athrow, 1)) (hlc : Cond.classLink own ia "java/lang/ArithmeticException" ∈ lw_all) (hlm : Cond.methodLink own ic ⟨"java/lang/ArithmeticException", "<init>", "()V"⟩ ∈ lw_all) (hd12 : 12 ≤ d) : hc_Az hc_V0 E nL X pc lv [] σ am [] := by
  intro ls H k9 n9 hl hR h1 h2
  have hc := Bool.and_eq_true_iff.mp hr
  have hc1 : 1 ≤ σ.2.2.2.1 := of_decide_eq_true hc.1
  have hc2 : 6 ≤ σ.2.2.2.2 := of_decide_eq_true hc.2
  have hfr := hC.2.2.2.2.2.2.2.2.2.2.2.1
  have hlo := hC.2.2.2.2.2.2.2.2.2.2.2.2.1
  have hnt : X.2.1.stackTraces = false := by rw [hC.2.2.2.2.2.2.2.2.2.2.2.2.2.2.2.1]; exact hC.2.2.2.2.2.2.2.2.2.2.2.2.2.2.2.2.2.2.2
  rw [hC.2.2.2.2.2.2.2.2.2.2.2.2.2.2.1]
  refine hx_W (cls := hc_xn 4) (names := ["java/lang/RuntimeException", "java/lang/Exception"]) hC.1 hC.2.1 hC.2.2.1 hC.2.2.2.2.2.2.1 hem hnt hC.2.2.2.1 (hC.2.2.2.2.1 _ hlc) (hC.2.2.2.2.1 _ q2424) (hC.2.2.2.2.1 _ q347) (hx_at4 hC.2.2.2.2.1 hC.2.2.2.2.2.2.2.2.1 hlm) (by decide +kernel) (by decide +kernel) d0 d3 d4 d7 hl.1 (by omega) (by omega) (by show 2 + 3 < _; omega) (by show 13 * 3 + 42 ≤ _; omega) ⟨?_, ?_⟩ (fun U b hcell hold hsz => ?_)
  · show σ.2.2.2.1 - 1 + (k9 + 1) = _; omega
  · show σ.2.2.2.2 - 6 + (n9 + 6) = _; omega
  · obtain ⟨cell, u1, u2, u3⟩ := hcell
    refine ⟨⟨am, ⟨b, rfl, cell, u1, by rw [u2]; decide, by rw [u2]; rfl, u3⟩, fun j z hz => hc_atKept hold (hP0 j z hz), hR.2.1, hR.2.2.2⟩, hsz, fun q h1 h2 => ?_⟩
    obtain ⟨w, hw⟩ : ∃ w, X.2.2.2.2.1.heap[q]? = some w := ⟨_, Array.getElem?_eq_getElem h1⟩
    rw [hold q w hw, hw]
end HZ4
