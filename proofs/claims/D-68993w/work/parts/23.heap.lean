/-! ===== rows that touch the store ===== -/
theorem hc_ws_new {G : hc_G} {E : hc_E} {σ : hc_St} {am : Nat → Nat → Nat} {k n q kd m : Nat} {g : Nat → Int32} {w : ClassId × vp_A} (hw : hc_ac E kd m g = w) : hc_ws G E (pU σ k n) am [(q, kd, m, g)] = hc_ws G E σ am [] ++ [(q, Sum.inl w)] := by
  subst hw
  show hc_ob G E σ am ++ (hc_ar G E σ am ++ _) = (hc_ob G E σ am ++ (hc_ar G E σ am ++ [])) ++ _
  rw [List.append_nil, List.append_assoc]
  rfl
section HCH
variable {V : hc_V} {E : hc_E} {cc : ByteArray} {nL d pc : Nat} {own : String} {ret : Option FieldType} {oc : hc_Oc} {σe : hc_St} {Y : hc_Y} {X : hc_X} {lv lv' : List (Nat × Value)} {st : List Value} {σ : hc_St} {am : Nat → Nat → Nat} {tm : hc_T}
theorem hr_get (hC : hc_C V E cc nL own ret d oc σe Y X) {C : String} {T : u_T} {N ci idx : Nat} {v : Value} (o f : Nat) (hd : decode cc pc = .ok (.getfield idx, 3)) (hlk : Cond.fieldLink own idx C (T f).2.1 (T f).2.2.1 ∈ lw_all) (hin : ∀ w ∈ u_ws C T N, w ∈ lw_all) (hcl : V.1[ci]? = some (C, T, N)) (hT : (T f).1 = C) (ho : o < V.2.1.1) (hci : V.2.1.2.1 o = ci) (hN : V.2.1.2.2.1 o = N) (hf : f < N) (hv : hc_fv V.2.1 E σ am o f = v)
    (k : hc_At V E nL X (pc + 3) lv (v :: st) σ am tm) : hc_At V E nL X pc lv (.ref (E.2.1 o) :: st) σ am tm := by
  intro ls H locs k9 n9 hl hR h1 h2
  subst hv; subst hci
  exact va_get (Ts := lw_all) (T := T) (C := C) hC.1 hC.2.1 hC.2.2.2.2.1 hin hC.2.2.2.1 hC.2.2.2.2.2.2.2.1 hR.1 o (hc_ws_o ho) hcl f hf (hC.2.2.2.2.1 _ hlk) (fun x hx => by rw [hT] at hx; exact hx) (hc_fs_at (by rw [hN]; exact hf)) hd (k ls H locs k9 n9 hl hR h1 h2)
theorem hr_getN (hC : hc_C V E cc nL own ret d oc σe Y X) {C host : String} {T : u_T} {N ci idx : Nat} {v : Value} (o f : Nat) (hd : decode cc pc = .ok (.getfield idx, 3)) (hlk : (Cond.fieldLinkNest own idx C (T f).2.1 (T f).2.2.1 host).before X.2.2.2.2.2.2.1 X.2.2.2.2.1 = true) (hin : ∀ w ∈ u_ws C T N, w ∈ lw_all) (hcl : V.1[ci]? = some (C, T, N)) (hT : (T f).1 = C) (ho : o < V.2.1.1) (hci : V.2.1.2.1 o = ci) (hN : V.2.1.2.2.1 o = N) (hf : f < N) (hv : hc_fv V.2.1 E σ am o f = v)
    (k : hc_At V E nL X (pc + 3) lv (v :: st) σ am tm) : hc_At V E nL X pc lv (.ref (E.2.1 o) :: st) σ am tm := by
  intro ls H locs k9 n9 hl hR h1 h2
  subst hv; subst hci
  exact va_getN (Ts := lw_all) (T := T) (C := C) hC.1 hC.2.1 hC.2.2.2.2.1 hin hC.2.2.2.1 hC.2.2.2.2.2.2.2.1 hR.1 o (hc_ws_o ho) hcl f hf hlk (fun x hx => by rw [hT] at hx; exact hx) (hc_fs_at (by rw [hN]; exact hf)) hd (k ls H locs k9 n9 hl hR h1 h2)
theorem hr_put (hC : hc_C V E cc nL own ret d oc σe Y X) {C : String} {T : u_T} {N ci idx : Nat} {w : Value} {v : Int32} {ty : FieldType} (o f : Nat) (hd : decode cc pc = .ok (.putfield idx, 3)) (hlk : Cond.fieldLink own idx C (T f).2.1 (T f).2.2.1 ∈ lw_all) (hin : ∀ w ∈ u_ws C T N, w ∈ lw_all) (ty0 : Nat → FieldType) (hty : ∀ k, k < N → parseFieldDescriptor (T k).2.2.1 = some (ty0 k)) (hnm : ∀ a, a < N → ∀ b, b < N → a ≠ b → (T a).2.1 ≠ (T b).2.1) (hcl : V.1[ci]? = some (C, T, N)) (hT : (T f).1 = C) (ho : o < V.2.1.1) (hci : V.2.1.2.1 o = ci) (hN : V.2.1.2.2.1 o = N) (hf : f < N) (hfin : (T f).2.2.2 = false) (hty1 : ty0 f = ty) (hn : narrow ty w = w) (hfit : fits ty w = true) (hw : hc_fv V.2.1 E (pI σ o f v) am o f = w)
    (k : hc_At V E nL X (pc + 3) lv st (pI σ o f v) am tm) : hc_At V E nL X pc lv (w :: .ref (E.2.1 o) :: st) σ am tm := by
  intro ls H locs k9 n9 hl hR h1 h2
  subst hci; subst hty1
  refine va_put (Ts := lw_all) (T := T) (C := C) hC.1 hC.2.1 hC.2.2.2.2.1 hin ty0 hty hnm hC.2.2.2.1 hC.2.2.2.2.2.2.2.1 hR.1 hR.2.1 hR.2.2.1 o (hc_ws_o ho) hcl f hf (hC.2.2.2.2.1 _ hlk) (fun x hx => by rw [hT] at hx; exact hx) hfin (hty f hf) hn hfit (by rw [hc_fs_len, hN]; exact hf) hd (fun H1 locs1 a b c => ?_)
  rw [hc_ws_pI ho hw] at a b
  exact k ls H1 locs1 k9 n9 hl ⟨a, b, c, hR.2.2.2⟩ h1 h2
theorem hr_putN (hC : hc_C V E cc nL own ret d oc σe Y X) {C host : String} {T : u_T} {N ci idx : Nat} {w : Value} {v : Int32} {ty : FieldType} (o f : Nat) (hd : decode cc pc = .ok (.putfield idx, 3)) (hlk : (Cond.fieldLinkNest own idx C (T f).2.1 (T f).2.2.1 host).before X.2.2.2.2.2.2.1 X.2.2.2.2.1 = true) (hin : ∀ w ∈ u_ws C T N, w ∈ lw_all) (ty0 : Nat → FieldType) (hty : ∀ k, k < N → parseFieldDescriptor (T k).2.2.1 = some (ty0 k)) (hnm : ∀ a, a < N → ∀ b, b < N → a ≠ b → (T a).2.1 ≠ (T b).2.1) (hcl : V.1[ci]? = some (C, T, N)) (hT : (T f).1 = C) (ho : o < V.2.1.1) (hci : V.2.1.2.1 o = ci) (hN : V.2.1.2.2.1 o = N) (hf : f < N) (hfin : (T f).2.2.2 = false) (hty1 : ty0 f = ty) (hn : narrow ty w = w) (hfit : fits ty w = true) (hw : hc_fv V.2.1 E (pI σ o f v) am o f = w)
    (k : hc_At V E nL X (pc + 3) lv st (pI σ o f v) am tm) : hc_At V E nL X pc lv (w :: .ref (E.2.1 o) :: st) σ am tm := by
  intro ls H locs k9 n9 hl hR h1 h2
  subst hci; subst hty1
  refine va_putN (Ts := lw_all) (T := T) (C := C) hC.1 hC.2.1 hC.2.2.2.2.1 hin ty0 hty hnm hC.2.2.2.1 hC.2.2.2.2.2.2.2.1 hR.1 hR.2.1 hR.2.2.1 o (hc_ws_o ho) hcl f hf hlk (fun x hx => by rw [hT] at hx; exact hx) hfin (hty f hf) hn hfit (by rw [hc_fs_len, hN]; exact hf) hd (fun H1 locs1 a b c => ?_)
  rw [hc_ws_pI ho hw] at a b
  exact k ls H1 locs1 k9 n9 hl ⟨a, b, c, hR.2.2.2⟩ h1 h2
/-- an array under way becomes a field's -/
theorem hr_putA (hC : hc_C V E cc nL own ret d oc σe Y X) {C : String} {T : u_T} {N ci idx q kd n k0 : Nat} {g : Nat → Int32} {ty : FieldType} (o f : Nat) (hd : decode cc pc = .ok (.putfield idx, 3)) (hlk : Cond.fieldLink own idx C (T f).2.1 (T f).2.2.1 ∈ lw_all) (hin : ∀ w ∈ u_ws C T N, w ∈ lw_all) (ty0 : Nat → FieldType) (hty : ∀ k, k < N → parseFieldDescriptor (T k).2.2.1 = some (ty0 k)) (hnm : ∀ a, a < N → ∀ b, b < N → a ≠ b → (T a).2.1 ≠ (T b).2.1) (hcl : V.1[ci]? = some (C, T, N)) (hT : (T f).1 = C) (ho : o < V.2.1.1) (hci : V.2.1.2.1 o = ci) (hN : V.2.1.2.2.1 o = N) (hf : f < N) (hfin : (T f).2.2.2 = false) (hty1 : ty0 f = ty) (hn : narrow ty (.ref q) = .ref q) (hfit : fits ty (.ref q) = true) (hkd : V.2.1.2.2.2.1 o f = kd) (hak : hc_ak kd = true) (hk0 : V.2.1.2.2.2.2.2[k0]? = some (o, f)) (hrb : o ∈ Y.2.2.2)
    (k : hc_At V E nL X (pc + 3) lv st (pA σ o f n g) (hc_up2 am o f q) []) : hc_At V E nL X pc lv (.ref q :: .ref (E.2.1 o) :: st) σ am [(q, kd, n, g)] := by
  intro ls H locs k9 n9 hl hR h1 h2
  subst hci; subst hty1
  refine va_put (Ts := lw_all) (T := T) (C := C) hC.1 hC.2.1 hC.2.2.2.2.1 hin ty0 hty hnm hC.2.2.2.1 hC.2.2.2.2.2.2.2.1 hR.1 hR.2.1 hR.2.2.1 o (hc_ws_o ho) hcl f hf (hC.2.2.2.2.1 _ hlk) (fun x hx => by rw [hT] at hx; exact hx) hfin (hty f hf) hn hfit (by rw [hc_fs_len, hN]; exact hf) hd (fun H1 locs1 a b c => ?_)
  exact k ls H1 locs1 k9 n9 hl ⟨hc_pA_P hk0 hC.2.2.2.2.2.2.2.2.2.2.2.2.2.1 ho hkd hak a, hc_pA_D hk0 hC.2.2.2.2.2.2.2.2.2.2.2.2.2.1 ho hkd hak b, c, fun i j hi => (hc_up2_n _ _ _ _ (fun z => hi (by rw [z.1, hC.2.2.2.2.2.2.2.2.2.2.2.2.2.2.2.2.2.2.1]; exact hrb))).trans (hR.2.2.2 i j hi)⟩ h1 h2
theorem hr_iald (hC : hc_C V E cc nL own ret d oc σe Y X) {k0 : Nat} {i : Int32} (o f : Nat) (hd : decode cc pc = .ok (.iaload, 1)) (hk0 : V.2.1.2.2.2.2.2[k0]? = some (o, f)) (hkd : V.2.1.2.2.2.1 o f = 1) (hi : inb i (gL σ o f) = true)
    (k : hc_At V E nL X (pc + 1) lv (.int (gC σ o f i) :: st) σ am tm) : hc_At V E nL X pc lv (.int i :: .ref (am o f) :: st) σ am tm := by
  intro ls H locs k9 n9 hl hR h1 h2
  exact va_iald hC.1 hC.2.1 hC.2.2.2.2.2.2.2.1 hR.1 (V.2.1.1 + k0) 0 (n := σ.2.1 o f) (f := σ.2.2.1 o f) ((hc_ws_a hk0).trans (by simp only [hc_ae, hkd, hc_ac, hc_nk])) rfl (inb_in hi) hd (k ls H locs k9 n9 hl hR h1 h2)
theorem hr_bald (hC : hc_C V E cc nL own ret d oc σe Y X) {k0 : Nat} {i : Int32} (o f : Nat) (hd : decode cc pc = .ok (.baload, 1)) (hk0 : V.2.1.2.2.2.2.2[k0]? = some (o, f)) (hkd : V.2.1.2.2.2.1 o f = 2) (hi : inb i (gL σ o f) = true)
    (k : hc_At V E nL X (pc + 1) lv (.int (gC σ o f i).toInt8.toInt32 :: st) σ am tm) : hc_At V E nL X pc lv (.int i :: .ref (am o f) :: st) σ am tm := by
  intro ls H locs k9 n9 hl hR h1 h2
  exact va_bald hC.1 hC.2.1 hC.2.2.2.2.2.2.2.1 hR.1 (V.2.1.1 + k0) 1 (n := σ.2.1 o f) (f := fun i => (σ.2.2.1 o f i).toInt8.toInt32) ((hc_ws_a hk0).trans (by simp only [hc_ae, hkd, hc_ac, hc_nk])) rfl (inb_in hi) hd (k ls H locs k9 n9 hl hR h1 h2)
theorem hr_zald (hC : hc_C V E cc nL own ret d oc σe Y X) {k0 : Nat} {i : Int32} (o f : Nat) (hd : decode cc pc = .ok (.baload, 1)) (hk0 : V.2.1.2.2.2.2.2[k0]? = some (o, f)) (hkd : V.2.1.2.2.2.1 o f = 3) (hi : inb i (gL σ o f) = true)
    (k : hc_At V E nL X (pc + 1) lv (.int (vp_nar .boolean (gC σ o f i)) :: st) σ am tm) : hc_At V E nL X pc lv (.int i :: .ref (am o f) :: st) σ am tm := by
  intro ls H locs k9 n9 hl hR h1 h2
  exact va_zald hC.1 hC.2.1 hC.2.2.2.2.2.2.2.1 hR.1 (V.2.1.1 + k0) 2 (n := σ.2.1 o f) (f := fun i => vp_nar .boolean (σ.2.2.1 o f i)) ((hc_ws_a hk0).trans (by simp only [hc_ae, hkd, hc_ac, hc_nk])) rfl (inb_in hi) hd (k ls H locs k9 n9 hl hR h1 h2)
/-- a String of an array -/
theorem hr_sald (hC : hc_C V E cc nL own ret d oc σe Y X) {k0 : Nat} {i : Int32} (o f : Nat) (hd : decode cc pc = .ok (.aaload, 1)) (hk0 : V.2.1.2.2.2.2.2[k0]? = some (o, f)) (hkd : V.2.1.2.2.2.1 o f = 4) (hi : inb i (gL σ o f) = true)
    (k : hc_At V E nL X (pc + 1) lv (.ref (E.2.2.2.1 (gC σ o f i).toNatClampNeg) :: st) σ am tm) : hc_At V E nL X pc lv (.int i :: .ref (am o f) :: st) σ am tm := by
  intro ls H locs k9 n9 hl hR h1 h2
  exact va_aldq hC.1 hC.2.1 hC.2.2.2.2.2.2.2.1 hR.1 (V.2.1.1 + k0) 3 (n := σ.2.1 o f) (f := fun i => some (E.2.2.2.1 (σ.2.2.1 o f i).toNatClampNeg)) ((hc_ws_a hk0).trans (by simp only [hc_ae, hkd, hc_ac])) rfl (inb_in hi) hd (k ls H locs k9 n9 hl hR h1 h2)
theorem hr_lald (hC : hc_C V E cc nL own ret d oc σe Y X) {k0 : Nat} {i : Int32} (o f : Nat) (hd : decode cc pc = .ok (.laload, 1)) (hk0 : V.2.1.2.2.2.2.2[k0]? = some (o, f)) (hkd : V.2.1.2.2.2.1 o f = 7) (hi : inb i (gL σ o f) = true)
    (k : hc_At V E nL X (pc + 1) lv (.long (gC σ o f i).toInt64 :: st) σ am tm) : hc_At V E nL X pc lv (.int i :: .ref (am o f) :: st) σ am tm := by
  intro ls H locs k9 n9 hl hR h1 h2
  exact va_lald hC.1 hC.2.1 hC.2.2.2.2.2.2.2.1 hR.1 (V.2.1.1 + k0) 4 (n := σ.2.1 o f) (f := fun i => (σ.2.2.1 o f i).toInt64) ((hc_ws_a hk0).trans (by simp only [hc_ae, hkd, hc_ac])) rfl (inb_in hi) hd (k ls H locs k9 n9 hl hR h1 h2)
theorem hr_iast (hC : hc_C V E cc nL own ret d oc σe Y X) {k0 : Nat} {i x : Int32} (o f : Nat) (hd : decode cc pc = .ok (.iastore, 1)) (hk0 : V.2.1.2.2.2.2.2[k0]? = some (o, f)) (hkd : V.2.1.2.2.2.1 o f = 1) (hi : inb i (gL σ o f) = true)
    (k : hc_At V E nL X (pc + 1) lv st (pC σ o f i x) am tm) : hc_At V E nL X pc lv (.int x :: .int i :: .ref (am o f) :: st) σ am tm := by
  intro ls H locs k9 n9 hl hR h1 h2
  refine va_iast hC.1 hC.2.1 hC.2.2.2.2.2.2.2.1 hR.1 hR.2.1 hR.2.2.1 (V.2.1.1 + k0) 0 (n := σ.2.1 o f) (f := σ.2.2.1 o f) ((hc_ws_a hk0).trans (by simp only [hc_ae, hkd, hc_ac, hc_nk])) rfl (inb_in hi) hd (fun H1 locs1 a b c => ?_)
  rw [hc_ws_pC (i := i) (v := x) hk0 hC.2.2.2.2.2.2.2.2.2.2.2.2.2.1 (by simp only [hc_ae, hkd, hc_ac, hc_nk, pC, hc_up2_s])] at a b
  exact k ls H1 locs1 k9 n9 hl ⟨a, b, c, hR.2.2.2⟩ h1 h2
theorem hr_bast (hC : hc_C V E cc nL own ret d oc σe Y X) {k0 : Nat} {i x : Int32} (o f : Nat) (hd : decode cc pc = .ok (.bastore, 1)) (hk0 : V.2.1.2.2.2.2.2[k0]? = some (o, f)) (hkd : V.2.1.2.2.2.1 o f = 2) (hi : inb i (gL σ o f) = true)
    (k : hc_At V E nL X (pc + 1) lv st (pC σ o f i x) am tm) : hc_At V E nL X pc lv (.int x :: .int i :: .ref (am o f) :: st) σ am tm := by
  intro ls H locs k9 n9 hl hR h1 h2
  refine va_bast hC.1 hC.2.1 hC.2.2.2.2.2.2.2.1 hR.1 hR.2.1 hR.2.2.1 (V.2.1.1 + k0) 1 (n := σ.2.1 o f) (f := fun i => (σ.2.2.1 o f i).toInt8.toInt32) ((hc_ws_a hk0).trans (by simp only [hc_ae, hkd, hc_ac, hc_nk])) rfl (inb_in hi) hd (fun H1 locs1 a b c => ?_)
  rw [hc_ws_pC (i := i) (v := x) hk0 hC.2.2.2.2.2.2.2.2.2.2.2.2.2.1 (by
    simp only [hc_ae, hkd, hc_ac, hc_nk, pC, hc_up2_s, vp_nar_byte]
    congr 3
    funext j
    simp only [upd]
    split <;> rfl)] at a b
  exact k ls H1 locs1 k9 n9 hl ⟨a, b, c, hR.2.2.2⟩ h1 h2
theorem hr_zast (hC : hc_C V E cc nL own ret d oc σe Y X) {k0 : Nat} {i x : Int32} (o f : Nat) (hd : decode cc pc = .ok (.bastore, 1)) (hk0 : V.2.1.2.2.2.2.2[k0]? = some (o, f)) (hkd : V.2.1.2.2.2.1 o f = 3) (hi : inb i (gL σ o f) = true)
    (k : hc_At V E nL X (pc + 1) lv st (pC σ o f i x) am tm) : hc_At V E nL X pc lv (.int x :: .int i :: .ref (am o f) :: st) σ am tm := by
  intro ls H locs k9 n9 hl hR h1 h2
  refine va_zast hC.1 hC.2.1 hC.2.2.2.2.2.2.2.1 hR.1 hR.2.1 hR.2.2.1 (V.2.1.1 + k0) 2 (n := σ.2.1 o f) (f := fun i => vp_nar .boolean (σ.2.2.1 o f i)) ((hc_ws_a hk0).trans (by simp only [hc_ae, hkd, hc_ac, hc_nk])) rfl (inb_in hi) hd (fun H1 locs1 a b c => ?_)
  rw [hc_ws_pC (i := i) (v := x) hk0 hC.2.2.2.2.2.2.2.2.2.2.2.2.2.1 (by
    simp only [hc_ae, hkd, hc_ac, hc_nk, pC, hc_up2_s]
    congr 3
    funext j
    simp only [upd]
    split <;> rfl)] at a b
  exact k ls H1 locs1 k9 n9 hl ⟨a, b, c, hR.2.2.2⟩ h1 h2
theorem hr_last (hC : hc_C V E cc nL own ret d oc σe Y X) {k0 : Nat} {i x : Int32} (o f : Nat) (hd : decode cc pc = .ok (.lastore, 1)) (hk0 : V.2.1.2.2.2.2.2[k0]? = some (o, f)) (hkd : V.2.1.2.2.2.1 o f = 7) (hi : inb i (gL σ o f) = true)
    (k : hc_At V E nL X (pc + 1) lv st (pC σ o f i x) am tm) : hc_At V E nL X pc lv (.long x.toInt64 :: .int i :: .ref (am o f) :: st) σ am tm := by
  intro ls H locs k9 n9 hl hR h1 h2
  refine va_last hC.1 hC.2.1 hC.2.2.2.2.2.2.2.1 hR.1 hR.2.1 hR.2.2.1 (V.2.1.1 + k0) 4 (n := σ.2.1 o f) (f := fun i => (σ.2.2.1 o f i).toInt64) ((hc_ws_a hk0).trans (by simp only [hc_ae, hkd, hc_ac])) rfl (inb_in hi) hd (fun H1 locs1 a b c => ?_)
  rw [hc_ws_pC (i := i) (v := x) hk0 hC.2.2.2.2.2.2.2.2.2.2.2.2.2.1 (by
    simp only [hc_ae, hkd, hc_ac, pC, hc_up2_s]
    congr 4
    funext j
    simp only [upd, vp_updL]
    split <;> rfl)] at a b
  exact k ls H1 locs1 k9 n9 hl ⟨a, b, c, hR.2.2.2⟩ h1 h2
theorem hc_ac_len {E : hc_E} {k n : Nat} {g : Nat → Int32} : ∃ x, hc_ac E k n g = (E.2.2.1 k, (n, x)) := by
  unfold hc_ac
  split
  · exact ⟨_, rfl⟩
  · exact ⟨_, rfl⟩
  · exact ⟨_, rfl⟩
theorem hr_alen (hC : hc_C V E cc nL own ret d oc σe Y X) {k0 t0 : Nat} {ty : FieldType} (o f : Nat) (hd : decode cc pc = .ok (.arraylength, 1)) (hk0 : V.2.1.2.2.2.2.2[k0]? = some (o, f)) (ht : (hc_tys E)[t0]? = some (E.2.2.1 (V.2.1.2.2.2.1 o f), ty))
    (k : hc_At V E nL X (pc + 1) lv (.int (nI (gL σ o f)) :: st) σ am tm) : hc_At V E nL X pc lv (.ref (am o f) :: st) σ am tm := by
  intro ls H locs k9 n9 hl hR h1 h2
  obtain ⟨x, hx⟩ := hc_ac_len (E := E) (k := V.2.1.2.2.2.1 o f) (n := σ.2.1 o f) (g := σ.2.2.1 o f)
  have hy := hc_ws_a (E := E) (σ := σ) (am := am) (tm := tm) hk0
  rw [hc_ae, hx] at hy
  exact va_alen hC.1 hC.2.1 hC.2.2.2.2.2.2.2.1 hR.1 (V.2.1.1 + k0) t0 hy ht rfl hd (k ls H locs k9 n9 hl hR h1 h2)
/-- a new array: of int (kind 1) or of byte (kind 2) -/
theorem hr_newI (hC : hc_C V E cc nL own ret d oc σe Y X) {n : Int32} (hd : decode cc pc = .ok (.newarray .int, 2)) (harr : Cond.arrayClass .int ∈ lw_all) (hn : ¬ n < 0) (hc : 1 ≤ σ.2.2.2.1) (hs : n.toNatClampNeg ≤ σ.2.2.2.2) (hb : n.toNatClampNeg ≤ 100000000)
    (k : ∀ q : Nat, hc_At V E nL X (pc + 2) lv (.ref q :: st) (pU σ 1 n.toNatClampNeg) am [(q, 1, n.toNatClampNeg, fun _ => 0)]) : hc_At V E nL X pc lv (.int n :: st) σ am [] := by
  intro ls H locs k9 n9 hl hR h1 h2
  refine va_newa hC.1 hC.2.1 (atype := .int) (hC.2.2.2.2.1 _ harr) (ty := .int) rfl hC.2.2.2.2.2.2.2.1 hR.1 hR.2.1 hR.2.2.1 hC.2.2.2.2.2.2.2.2.2.2.1 (a0 := (n.toNatClampNeg, .inl (fun _ => 0))) (fun _ => rfl) hn rfl (by show n.toNatClampNeg * 4 ≤ _; omega) (by omega) (by omega) hd (fun q cA H1 a b c e => ?_)
  have hcA : cA = E.2.2.1 1 := by
    have q1 := (a.2 ((hc_tys E).length) (cA, .int) (by simp)).2
    have q2 := (hC.2.2.2.2.2.2.2.1.2 0 (E.2.2.1 1, .int) rfl).2
    exact Option.some.inj (q1.symm.trans q2)
  subst hcA
  refine k q ls H1 locs (k9 + 1) (n9 + n.toNatClampNeg) hl ⟨?_, ?_, e, hR.2.2.2⟩ (by simp only [pU]; omega) (by simp only [pU]; omega)
  · rw [hc_ws_new (w := (E.2.2.1 1, (n.toNatClampNeg, .inl (fun _ => 0)))) (by simp only [hc_ac, hc_nk] <;> first | rfl | (congr 3))]; exact b
  · rw [hc_ws_new (w := (E.2.2.1 1, (n.toNatClampNeg, .inl (fun _ => 0)))) (by simp only [hc_ac, hc_nk] <;> first | rfl | (congr 3))]; exact c
theorem hr_newB (hC : hc_C V E cc nL own ret d oc σe Y X) {n : Int32} (hd : decode cc pc = .ok (.newarray .byte, 2)) (harr : Cond.arrayClass .byte ∈ lw_all) (hn : ¬ n < 0) (hc : 1 ≤ σ.2.2.2.1) (hs : n.toNatClampNeg ≤ σ.2.2.2.2) (hb : n.toNatClampNeg ≤ 100000000)
    (k : ∀ q : Nat, hc_At V E nL X (pc + 2) lv (.ref q :: st) (pU σ 1 n.toNatClampNeg) am [(q, 2, n.toNatClampNeg, fun _ => 0)]) : hc_At V E nL X pc lv (.int n :: st) σ am [] := by
  intro ls H locs k9 n9 hl hR h1 h2
  refine va_newa hC.1 hC.2.1 (atype := .byte) (hC.2.2.2.2.1 _ harr) (ty := .byte) rfl hC.2.2.2.2.2.2.2.1 hR.1 hR.2.1 hR.2.2.1 hC.2.2.2.2.2.2.2.2.2.2.1 (a0 := (n.toNatClampNeg, .inl (fun _ => 0))) (fun _ => rfl) hn rfl (by show n.toNatClampNeg * 1 ≤ _; omega) (by omega) (by omega) hd (fun q cA H1 a b c e => ?_)
  have hcA : cA = E.2.2.1 2 := by
    have q1 := (a.2 ((hc_tys E).length) (cA, .byte) (by simp)).2
    have q2 := (hC.2.2.2.2.2.2.2.1.2 1 (E.2.2.1 2, .byte) rfl).2
    exact Option.some.inj (q1.symm.trans q2)
  subst hcA
  refine k q ls H1 locs (k9 + 1) (n9 + n.toNatClampNeg) hl ⟨?_, ?_, e, hR.2.2.2⟩ (by simp only [pU]; omega) (by simp only [pU]; omega)
  · rw [hc_ws_new (w := (E.2.2.1 2, (n.toNatClampNeg, .inl (fun _ => 0)))) (by simp only [hc_ac, hc_nk] <;> first | rfl | (congr 3))]; exact b
  · rw [hc_ws_new (w := (E.2.2.1 2, (n.toNatClampNeg, .inl (fun _ => 0)))) (by simp only [hc_ac, hc_nk] <;> first | rfl | (congr 3))]; exact c
end HCH
