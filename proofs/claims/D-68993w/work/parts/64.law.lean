set_option maxRecDepth 20000
section HSL
variable {V : hc_V} {E : hc_E} {cc : ByteArray} {nL d pc : Nat} {own : String} {ret : Option FieldType} {oc : hc_Oc} {σe : hc_St} {Y : hc_Y} {X : hc_X} {lv lv' : List (Nat × Value)} {st : List Value} {σ : hc_St} {am : Nat → Nat → Nat} {tm : hc_T}
theorem hr_sld (hC : hc_C V E cc nL own ret d oc σe Y X) {b L : Nat} {xs : Nat → Int32} (hX : va_X b L xs X.2.2.2.2.1 X.2.2.2.2.1.heap) (hbl : b < X.2.2.2.2.1.heap.size) (hbA : ¬ X.2.2.2.2.2.2.2.2.2.2.1 b) {i : Int32} (hi : inb i L = true) (hd : decode cc pc = .ok (.iaload, 1)) (k : hc_At V E nL X (pc + 1) lv (.int (xs i.toNatClampNeg) :: st) σ am tm) : hc_At V E nL X pc lv (.int i :: .ref b :: st) σ am tm :=
  fun ls H locs k9 n9 hl hR h1 h2 => va_sld hC.1 hC.2.1 hX hbl hbA hR.2.2.1 (inb_in hi) hd (k ls H locs k9 n9 hl hR h1 h2)
theorem hr_slen0 (hC : hc_C V E cc nL own ret d oc σe Y X) {b L : Nat} {xs : Nat → Int32} (hX : va_X b L xs X.2.2.2.2.1 X.2.2.2.2.1.heap) (hbl : b < X.2.2.2.2.1.heap.size) (hbA : ¬ X.2.2.2.2.2.2.2.2.2.2.1 b) (hd : decode cc pc = .ok (.arraylength, 1)) (k : hc_At V E nL X (pc + 1) lv (.int (nI L) :: st) σ am tm) : hc_At V E nL X pc lv (.ref b :: st) σ am tm :=
  fun ls H locs k9 n9 hl hR h1 h2 => va_slen hC.1 hC.2.1 hX hbl hbA hR.2.2.1 hd (k ls H locs k9 n9 hl hR h1 h2)
end HSL

def lp_L_law_23 (n : Nat) (k0 : Nat) (L : Nat) (xs : Nat → Int32) : Nat → Int32 → hc_St → Option (Int32 × hc_St)
  | 0, _, _ => none
  | m + 1, y4, σ => if (((nI L)) - 6) < y4 then (some (1, σ)) else (hk (inb y4 L) <| if (((xs y4.toNatClampNeg)) &&& 15) = 0 then (hk (inb ((y4 + 1)) L) <| hk (inb ((y4 + 2)) L) <| hk (inb ((y4 + 3)) L) <| hk (inb ((y4 + 4)) L) <| hk (inb ((y4 + 5)) L) <| Option.bind (fm_X0_feed n ((xs ((y4 + 1)).toNatClampNeg)) ((xs ((y4 + 2)).toNatClampNeg)) ((xs ((y4 + 3)).toNatClampNeg)) ((xs ((y4 + 4)).toNatClampNeg)) ((xs ((y4 + 5)).toNatClampNeg)) σ) fun r9 => hk (inb ((y4 + 1)) L) <| hk (inb ((y4 + 2)) L) <| hk (inb ((y4 + 3)) L) <| hk (inb ((y4 + 4)) L) <| hk (inb ((y4 + 5)) L) <| Option.bind (fm_X21_feed n ((xs ((y4 + 1)).toNatClampNeg)) ((xs ((y4 + 2)).toNatClampNeg)) ((xs ((y4 + 3)).toNatClampNeg)) ((xs ((y4 + 4)).toNatClampNeg)) ((xs ((y4 + 5)).toNatClampNeg)) r9.2) fun r18 => Option.bind (fm_X21_thrown  r18) fun r22 => if r22 = r9.1 then (lp_L_law_23 n k0 L xs m ((y4 + 6)) r18) else (some (0, r18))) else if (((xs y4.toNatClampNeg)) &&& 15) = 1 then (hk (inb ((y4 + 1)) L) <| Option.bind (fm_X0_end ((xs ((y4 + 1)).toNatClampNeg)) σ) fun r29 => hk (inb ((y4 + 1)) L) <| Option.bind (fm_X21_end ((xs ((y4 + 1)).toNatClampNeg)) r29.2) fun r34 => Option.bind (fm_X21_thrown  r34) fun r38 => if r38 = r29.1 then (lp_L_law_23 n k0 L xs m ((y4 + 6)) r34) else (some (0, r34))) else if (((xs y4.toNatClampNeg)) &&& 15) = 2 then (Option.bind (fm_X1_load n k0 σ) fun r44 => Option.bind (fm_X21_load n k0 r44.2) fun r48 => if r44.1 = r48.1 then (lp_L_law_23 n k0 L xs m ((y4 + 6)) r48.2) else (some (0, r48.2))) else if (((xs y4.toNatClampNeg)) &&& 15) = 3 then (Option.bind (fm_X1_place  σ) fun r54 => Option.bind (fm_X21_place  σ) fun r58 => if r54 = r58.1 then (lp_L_law_23 n k0 L xs m ((y4 + 6)) r58.2) else (some (0, r58.2))) else if (((xs y4.toNatClampNeg)) &&& 15) = 4 then (hk (inb ((y4 + 1)) L) <| Option.bind (fm_X0_input ((xs ((y4 + 1)).toNatClampNeg)) σ) fun r65 => hk (inb ((y4 + 1)) L) <| Option.bind (fm_X21_input ((xs ((y4 + 1)).toNatClampNeg)) r65.2) fun r70 => Option.bind (fm_X21_thrown  r70) fun r74 => if r74 = r65.1 then (lp_L_law_23 n k0 L xs m ((y4 + 6)) r70) else (some (0, r70))) else if (((xs y4.toNatClampNeg)) &&& 15) = 5 then (hk (inb ((y4 + 1)) L) <| hk (inb ((y4 + 2)) L) <| hk (inb ((y4 + 3)) L) <| Option.bind (fm_X0_run n ((xs ((y4 + 1)).toNatClampNeg)) ((xs ((y4 + 2)).toNatClampNeg)) ((xs ((y4 + 3)).toNatClampNeg)) σ) fun r83 => hk (inb ((y4 + 1)) L) <| hk (inb ((y4 + 2)) L) <| hk (inb ((y4 + 3)) L) <| Option.bind (fm_X21_run n ((xs ((y4 + 1)).toNatClampNeg)) ((xs ((y4 + 2)).toNatClampNeg)) ((xs ((y4 + 3)).toNatClampNeg)) r83.2) fun r90 => Option.bind (fm_X21_thrown  r90.2) fun r94 => if r94 = r83.1 then (if r83.1 = 0 then (hk (inb 0 (gL r90.2 24 0)) <| if (lg_cmp ((gC r90.2 24 0 0).toInt64) ((r90.1.toInt64))) = 0 then (lp_L_law_23 n k0 L xs m ((y4 + 6)) r90.2) else (some (0, r90.2))) else (lp_L_law_23 n k0 L xs m ((y4 + 6)) r90.2)) else (some (0, r90.2))) else if (((xs y4.toNatClampNeg)) &&& 15) = 6 then (Option.bind (fm_X1_value  σ) fun r105 => Option.bind (fm_X21_value  σ) fun r109 => if r105 = r109.1 then (lp_L_law_23 n k0 L xs m ((y4 + 6)) r109.2) else (some (0, r109.2))) else if (((xs y4.toNatClampNeg)) &&& 15) = 7 then (Option.bind (fm_X1_left  σ) fun r115 => Option.bind (fm_X21_left  σ) fun r119 => if r115 = r119.1 then (lp_L_law_23 n k0 L xs m ((y4 + 6)) r119.2) else (some (0, r119.2))) else if (((xs y4.toNatClampNeg)) &&& 15) = 8 then (Option.bind (fm_X1_paper  σ) fun r125 => Option.bind (fm_X21_paper  σ) fun r129 => if r125 = r129.1 then (lp_L_law_23 n k0 L xs m ((y4 + 6)) r129.2) else (some (0, r129.2))) else if (((xs y4.toNatClampNeg)) &&& 15) = 9 then (hk (inb ((y4 + 1)) L) <| Option.bind (fm_X0_paperAt ((xs ((y4 + 1)).toNatClampNeg)) σ) fun r136 => hk (inb ((y4 + 1)) L) <| Option.bind (fm_X21_paperAt ((xs ((y4 + 1)).toNatClampNeg)) r136.2) fun r141 => Option.bind (fm_X21_thrown  r141.2) fun r145 => if r145 = r136.1 then (if r136.1 = 0 then (hk (inb 0 (gL r141.2 24 0)) <| if (lg_cmp ((gC r141.2 24 0 0).toInt64) ((r141.1.toInt64))) = 0 then (lp_L_law_23 n k0 L xs m ((y4 + 6)) r141.2) else (some (0, r141.2))) else (lp_L_law_23 n k0 L xs m ((y4 + 6)) r141.2)) else (some (0, r141.2))) else if (((xs y4.toNatClampNeg)) &&& 15) = 10 then (Option.bind (fm_X1_inputs  σ) fun r156 => Option.bind (fm_X21_inputs  σ) fun r160 => if r156 = r160.1 then (lp_L_law_23 n k0 L xs m ((y4 + 6)) r160.2) else (some (0, r160.2))) else if (((xs y4.toNatClampNeg)) &&& 15) = 11 then (hk (inb ((y4 + 1)) L) <| Option.bind (fm_X0_disk ((xs ((y4 + 1)).toNatClampNeg)) σ) fun r167 => hk (inb ((y4 + 1)) L) <| Option.bind (fm_X21_disk ((xs ((y4 + 1)).toNatClampNeg)) r167.2) fun r172 => Option.bind (fm_X21_thrown  r172.2) fun r176 => if r176 = r167.1 then (if r167.1 = 0 then (hk (inb 0 (gL r172.2 24 0)) <| if (lg_cmp ((gC r172.2 24 0 0).toInt64) ((r172.1.toInt64))) = 0 then (lp_L_law_23 n k0 L xs m ((y4 + 6)) r172.2) else (some (0, r172.2))) else (lp_L_law_23 n k0 L xs m ((y4 + 6)) r172.2)) else (some (0, r172.2))) else if (((xs y4.toNatClampNeg)) &&& 15) = 12 then (hk (inb ((y4 + 1)) L) <| hk (inb ((y4 + 2)) L) <| Option.bind (fm_X0_setDisk ((xs ((y4 + 1)).toNatClampNeg)) ((xs ((y4 + 2)).toNatClampNeg)) σ) fun r189 => hk (inb ((y4 + 1)) L) <| hk (inb ((y4 + 2)) L) <| Option.bind (fm_X21_setDisk ((xs ((y4 + 1)).toNatClampNeg)) ((xs ((y4 + 2)).toNatClampNeg)) r189.2) fun r195 => Option.bind (fm_X21_thrown  r195) fun r199 => if r199 = r189.1 then (lp_L_law_23 n k0 L xs m ((y4 + 6)) r195) else (some (0, r195))) else if (((xs y4.toNatClampNeg)) &&& 15) = 13 then (hk (inb ((y4 + 1)) L) <| Option.bind (fm_X0_variable ((xs ((y4 + 1)).toNatClampNeg)) σ) fun r206 => hk (inb ((y4 + 1)) L) <| Option.bind (fm_X21_variable_2 n ((xs ((y4 + 1)).toNatClampNeg)) r206.2) fun r211 => Option.bind (fm_X21_thrown  r211.2) fun r215 => if r215 = r206.1 then (if r206.1 = 0 then (hk (inb 0 (gL r211.2 24 0)) <| if (lg_cmp ((gC r211.2 24 0 0).toInt64) ((r211.1.toInt64))) = 0 then (lp_L_law_23 n k0 L xs m ((y4 + 6)) r211.2) else (some (0, r211.2))) else (lp_L_law_23 n k0 L xs m ((y4 + 6)) r211.2)) else (some (0, r211.2))) else if (((xs y4.toNatClampNeg)) &&& 15) = 14 then (Option.bind (fm_X1_life  σ) fun r226 => Option.bind (fm_X21_life  σ) fun r230 => if r226 = r230.1 then (lp_L_law_23 n k0 L xs m ((y4 + 6)) r230.2) else (some (0, r230.2))) else (lp_L_law_23 n k0 L xs m ((y4 + 6)) σ))
set_option maxRecDepth 20000 in
set_option maxHeartbeats 8000000 in
theorem ll_L_law_23 {l : Launch} {E : hc_E} {A : Nat → Prop} {am : Nat → Nat → Nat} {d : Nat} {X : hc_X} (n : Nat) (k0 : Nat) (L : Nat) (xs : Nat → Int32) (hD : 3 * k0 + 28 ≤ d) {b : Nat} (hX : va_X b L xs X.2.2.2.2.1 X.2.2.2.2.1.heap) (hbl : b < X.2.2.2.2.1.heap.size) (hbA : ¬ X.2.2.2.2.2.2.2.2.2.2.1 b) : ∀ (m : Nat) (σ : hc_St) (y4 : Int32) (rl : (Int32 × hc_St)), lp_L_law_23 n k0 L xs m y4 σ = some rl → hc_C hc_V0 E code 7 RX0 (some .boolean) d (.inl (some (.int rl.1))) rl.2 (l, A, am, [2, 3, 4, 6, 8, 10, 11, 12, 13, 14, 16, 22]) X → ∀ am1, hc_At hc_V0 E 7 X 23 [(0, .ref b), (1, .ref (E.2.1 0)), (2, .ref (E.2.1 23)), (3, .ref (am1 24 0)), (4, .int y4)] [] σ am1 [] := by
  have hd1 : 1 ≤ d := by omega
  have hd8 : 9 ≤ d := by omega
  have hd12 : 12 ≤ d := by omega
  intro m
  induction m with
  | zero =>
    intro σ y4 rl h
    cases h
  | succ m ih =>
    intro σ y4 rl h hC am1
    rw [lp_L_law_23] at h
    refine hr_iload hC dL_law_23 rfl ?_
    refine hr_aload_n hC dL_law_25 rfl ?_
    refine hr_slen0 hC hX hbl hbA dL_law_26 ?_
    refine hr_bipush (v := 6) hC dL_law_27 rfl ?_
    refine hr_isub hC dL_law_29 ?_
    refine hr_icmp_gt (x := _) hC 665 dL_law_30 (by decide) (fun c2 => ?_) (fun c2 => ?_)
    · rw [if_pos c2] at h
      refine hr_iconst (v := 1) hC dL_law_665 rfl ?_
      obtain rfl := Option.some.inj h
      exact hr_zret hC rfl dL_law_666
    · rw [if_neg c2] at h
      refine hr_aload_n hC dL_law_33 rfl ?_
      refine hr_iload hC dL_law_34 rfl ?_
      obtain ⟨c3, h⟩ := hk_ok h
      refine hr_sld hC hX hbl hbA c3 dL_law_36 ?_
      refine hr_bipush (v := 15) hC dL_law_37 rfl ?_
      refine hr_iand hC dL_law_39 ?_
      by_cases c236 : (((xs y4.toNatClampNeg)) &&& 15) = 0
      · rw [if_pos c236] at h
        refine hr_tableIn hC 116 dL_law_40 (by rw [c236] <;> decide) (by rw [c236] <;> decide) (by rw [c236] <;> rfl) (by decide) ?_
        refine hr_aload_n hC dL_law_116 rfl ?_
        refine hr_aload_n hC dL_law_117 rfl ?_
        refine hr_iload hC dL_law_118 rfl ?_
        refine hr_iconst (v := 1) hC dL_law_120 rfl ?_
        refine hr_iadd hC dL_law_121 ?_
        obtain ⟨c4, h⟩ := hk_ok h
        refine hr_sld hC hX hbl hbA c4 dL_law_122 ?_
        refine hr_aload_n hC dL_law_123 rfl ?_
        refine hr_iload hC dL_law_124 rfl ?_
        refine hr_iconst (v := 2) hC dL_law_126 rfl ?_
        refine hr_iadd hC dL_law_127 ?_
        obtain ⟨c5, h⟩ := hk_ok h
        refine hr_sld hC hX hbl hbA c5 dL_law_128 ?_
        refine hr_aload_n hC dL_law_129 rfl ?_
        refine hr_iload hC dL_law_130 rfl ?_
        refine hr_iconst (v := 3) hC dL_law_132 rfl ?_
        refine hr_iadd hC dL_law_133 ?_
        obtain ⟨c6, h⟩ := hk_ok h
        refine hr_sld hC hX hbl hbA c6 dL_law_134 ?_
        refine hr_aload_n hC dL_law_135 rfl ?_
        refine hr_iload hC dL_law_136 rfl ?_
        refine hr_iconst (v := 4) hC dL_law_138 rfl ?_
        refine hr_iadd hC dL_law_139 ?_
        obtain ⟨c7, h⟩ := hk_ok h
        refine hr_sld hC hX hbl hbA c7 dL_law_140 ?_
        refine hr_aload_n hC dL_law_141 rfl ?_
        refine hr_iload hC dL_law_142 rfl ?_
        refine hr_iconst (v := 5) hC dL_law_144 rfl ?_
        refine hr_iadd hC dL_law_145 ?_
        obtain ⟨c8, h⟩ := hk_ok h
        refine hr_sld hC hX hbl hbA c8 dL_law_146 ?_
        obtain ⟨r9, e10, h⟩ := hx_bind h
        refine hs_callSW hC [_, _, _, _, _, _] _ dL_law_147 q2370 q2371 q314 q2372 np_X0 rfl pd_X0_feed (Nat.le_of_ble_eq_true rfl) hd1 (okX0_feed l E A (d - 1) n (by omega)  e10 am1) (hc_rb rfl) rfl (fun am11 ha12 => ?_)
        rw [show am1 24 0 = am11 24 0 from (ha12 24 0 (by decide)).symm]
        refine hr_istore hC dL_law_150 (by decide) ?_
        refine hr_aload_n hC dL_law_152 rfl ?_
        refine hr_aload_n hC dL_law_153 rfl ?_
        refine hr_iload hC dL_law_154 rfl ?_
        refine hr_iconst (v := 1) hC dL_law_156 rfl ?_
        refine hr_iadd hC dL_law_157 ?_
        obtain ⟨c13, h⟩ := hk_ok h
        refine hr_sld hC hX hbl hbA c13 dL_law_158 ?_
        refine hr_aload_n hC dL_law_159 rfl ?_
        refine hr_iload hC dL_law_160 rfl ?_
        refine hr_iconst (v := 2) hC dL_law_162 rfl ?_
        refine hr_iadd hC dL_law_163 ?_
        obtain ⟨c14, h⟩ := hk_ok h
        refine hr_sld hC hX hbl hbA c14 dL_law_164 ?_
        refine hr_aload_n hC dL_law_165 rfl ?_
        refine hr_iload hC dL_law_166 rfl ?_
        refine hr_iconst (v := 3) hC dL_law_168 rfl ?_
        refine hr_iadd hC dL_law_169 ?_
        obtain ⟨c15, h⟩ := hk_ok h
        refine hr_sld hC hX hbl hbA c15 dL_law_170 ?_
        refine hr_aload_n hC dL_law_171 rfl ?_
        refine hr_iload hC dL_law_172 rfl ?_
        refine hr_iconst (v := 4) hC dL_law_174 rfl ?_
        refine hr_iadd hC dL_law_175 ?_
        obtain ⟨c16, h⟩ := hk_ok h
        refine hr_sld hC hX hbl hbA c16 dL_law_176 ?_
        refine hr_aload_n hC dL_law_177 rfl ?_
        refine hr_iload hC dL_law_178 rfl ?_
        refine hr_iconst (v := 5) hC dL_law_180 rfl ?_
        refine hr_iadd hC dL_law_181 ?_
        obtain ⟨c17, h⟩ := hk_ok h
        refine hr_sld hC hX hbl hbA c17 dL_law_182 ?_
        obtain ⟨r18, e19, h⟩ := hx_bind h
        refine hs_callV0 hC 23 [_, _, _, _, _] _ dL_law_183 q3107 q3108 q3109 q335 q3110 np_X21 rfl OB_23 pd_X21_feed (Nat.le_of_ble_eq_true rfl) hd1 (okX21_feed l E A (d - 1) n (by omega)  e19 am11) rfl ?_
        refine hr_aload_n hC dL_law_186 rfl ?_
        obtain ⟨r22, e23, h⟩ := hx_bind h
        refine hs_callV0 hC 23 [] _ dL_law_187 q3103 q3104 q3105 q335 q3106 np_X21 rfl OB_23 pd_X21_thrown (Nat.le_of_ble_eq_true rfl) hd1 (okX21_thrown l E A (d - 1)  (by omega)  e23 am11) rfl ?_
        refine hr_iload hC dL_law_190 rfl ?_
        refine hr_icmp_eq (x := _) hC 197 dL_law_192 (by decide) (fun c27 => ?_) (fun c27 => ?_)
        · rw [if_pos c27] at h
          refine hr_goto hC 659 dL_law_197 (by decide) ?_
          refine hr_iinc (v := y4 + 6) hC dL_law_659 rfl rfl (by decide) ?_
          refine hr_goto hC 23 dL_law_662 (by decide) ?_
          exact hr_sub _ rfl (ih _ _ _ h hC am11)
        · rw [if_neg c27] at h
          refine hr_iconst (v := 0) hC dL_law_195 rfl ?_
          obtain rfl := Option.some.inj h
          exact hr_zret hC rfl dL_law_196
      rw [if_neg c236] at h
      by_cases c237 : (((xs y4.toNatClampNeg)) &&& 15) = 1
      · rw [if_pos c237] at h
        refine hr_tableIn hC 200 dL_law_40 (by rw [c237] <;> decide) (by rw [c237] <;> decide) (by rw [c237] <;> rfl) (by decide) ?_
        refine hr_aload_n hC dL_law_200 rfl ?_
        refine hr_aload_n hC dL_law_201 rfl ?_
        refine hr_iload hC dL_law_202 rfl ?_
        refine hr_iconst (v := 1) hC dL_law_204 rfl ?_
        refine hr_iadd hC dL_law_205 ?_
        obtain ⟨c28, h⟩ := hk_ok h
        refine hr_sld hC hX hbl hbA c28 dL_law_206 ?_
        obtain ⟨r29, e30, h⟩ := hx_bind h
        refine hs_callS0W hC [_, _] _ dL_law_207 q2401 q2402 q314 q2403 np_X0 rfl pd_X0_end (Nat.le_of_ble_eq_true rfl) hd1 (okX0_end l E A (d - 1)  (by omega)  e30 am1) rfl ?_
        refine hr_istore hC dL_law_210 (by decide) ?_
        refine hr_aload_n hC dL_law_212 rfl ?_
        refine hr_aload_n hC dL_law_213 rfl ?_
        refine hr_iload hC dL_law_214 rfl ?_
        refine hr_iconst (v := 1) hC dL_law_216 rfl ?_
        refine hr_iadd hC dL_law_217 ?_
        obtain ⟨c33, h⟩ := hk_ok h
        refine hr_sld hC hX hbl hbA c33 dL_law_218 ?_
        obtain ⟨r34, e35, h⟩ := hx_bind h
        refine hs_callV0 hC 23 [_] _ dL_law_219 q3111 q3112 q3113 q335 q3114 np_X21 rfl OB_23 pd_X21_end (Nat.le_of_ble_eq_true rfl) hd1 (okX21_end l E A (d - 1)  (by omega)  e35 am1) rfl ?_
        refine hr_aload_n hC dL_law_222 rfl ?_
        obtain ⟨r38, e39, h⟩ := hx_bind h
        refine hs_callV0 hC 23 [] _ dL_law_223 q3103 q3104 q3105 q335 q3106 np_X21 rfl OB_23 pd_X21_thrown (Nat.le_of_ble_eq_true rfl) hd1 (okX21_thrown l E A (d - 1)  (by omega)  e39 am1) rfl ?_
        refine hr_iload hC dL_law_226 rfl ?_
        refine hr_icmp_eq (x := _) hC 233 dL_law_228 (by decide) (fun c43 => ?_) (fun c43 => ?_)
        · rw [if_pos c43] at h
          refine hr_goto hC 659 dL_law_233 (by decide) ?_
          refine hr_iinc (v := y4 + 6) hC dL_law_659 rfl rfl (by decide) ?_
          refine hr_goto hC 23 dL_law_662 (by decide) ?_
          exact hr_sub _ rfl (ih _ _ _ h hC am1)
        · rw [if_neg c43] at h
          refine hr_iconst (v := 0) hC dL_law_231 rfl ?_
          obtain rfl := Option.some.inj h
          exact hr_zret hC rfl dL_law_232
      rw [if_neg c237] at h
      by_cases c238 : (((xs y4.toNatClampNeg)) &&& 15) = 2
      · rw [if_pos c238] at h
        refine hr_tableIn hC 236 dL_law_40 (by rw [c238] <;> decide) (by rw [c238] <;> decide) (by rw [c238] <;> rfl) (by decide) ?_
        refine hr_aload_n hC dL_law_236 rfl ?_
        obtain ⟨r44, e45, h⟩ := hx_bind h
        refine hs_callV hC 0 [] _ dL_law_237 q1046 q1047 q1048 q315 q1049 np_X1 rfl OB_0 pd_X1_load (Nat.le_of_ble_eq_true rfl) hd1 (okX1_load l E A (d - 1) n k0 (by omega)  e45 am1) (hc_rb rfl) rfl (fun am46 ha47 => ?_)
        rw [show am1 24 0 = am46 24 0 from (ha47 24 0 (by decide)).symm]
        refine hr_aload_n hC dL_law_240 rfl ?_
        obtain ⟨r48, e49, h⟩ := hx_bind h
        refine hs_callV0 hC 23 [] _ dL_law_241 q3115 q3116 q3117 q335 q3118 np_X21 rfl OB_23 pd_X21_load (Nat.le_of_ble_eq_true rfl) hd1 (okX21_load l E A (d - 1) n k0 (by omega)  e49 am46) rfl ?_
        refine hr_icmp_eq (x := _) hC 659 dL_law_244 (by decide) (fun c53 => ?_) (fun c53 => ?_)
        · rw [if_pos c53] at h
          refine hr_iinc (v := y4 + 6) hC dL_law_659 rfl rfl (by decide) ?_
          refine hr_goto hC 23 dL_law_662 (by decide) ?_
          exact hr_sub _ rfl (ih _ _ _ h hC am46)
        · rw [if_neg c53] at h
          refine hr_iconst (v := 0) hC dL_law_247 rfl ?_
          obtain rfl := Option.some.inj h
          exact hr_zret hC rfl dL_law_248
      rw [if_neg c238] at h
      by_cases c239 : (((xs y4.toNatClampNeg)) &&& 15) = 3
      · rw [if_pos c239] at h
        refine hr_tableIn hC 249 dL_law_40 (by rw [c239] <;> decide) (by rw [c239] <;> decide) (by rw [c239] <;> rfl) (by decide) ?_
        refine hr_aload_n hC dL_law_249 rfl ?_
        obtain ⟨r54, e55, h⟩ := hx_bind h
        refine hs_callV0 hC 0 [] _ dL_law_250 q2346 q2347 q2348 q315 q2349 np_X1 rfl OB_0 pd_X1_place (Nat.le_of_ble_eq_true rfl) hd1 (okX1_place l E A (d - 1)  (by omega)  e55 am1) rfl ?_
        refine hr_aload_n hC dL_law_253 rfl ?_
        obtain ⟨r58, e59, h⟩ := hx_bind h
        refine hs_callV0 hC 23 [] _ dL_law_254 q3543 q3544 q3545 q335 q3546 np_X21 rfl OB_23 pd_X21_place (Nat.le_of_ble_eq_true rfl) hd1 (okX21_place l E A (d - 1)  (by omega)  e59 am1) rfl ?_
        refine hr_icmp_eq (x := _) hC 659 dL_law_257 (by decide) (fun c63 => ?_) (fun c63 => ?_)
        · rw [if_pos c63] at h
          refine hr_iinc (v := y4 + 6) hC dL_law_659 rfl rfl (by decide) ?_
          refine hr_goto hC 23 dL_law_662 (by decide) ?_
          exact hr_sub _ rfl (ih _ _ _ h hC am1)
        · rw [if_neg c63] at h
          refine hr_iconst (v := 0) hC dL_law_260 rfl ?_
          obtain rfl := Option.some.inj h
          exact hr_zret hC rfl dL_law_261
      rw [if_neg c239] at h
      by_cases c240 : (((xs y4.toNatClampNeg)) &&& 15) = 4
      · rw [if_pos c240] at h
        refine hr_tableIn hC 262 dL_law_40 (by rw [c240] <;> decide) (by rw [c240] <;> decide) (by rw [c240] <;> rfl) (by decide) ?_
        refine hr_aload_n hC dL_law_262 rfl ?_
        refine hr_aload_n hC dL_law_263 rfl ?_
        refine hr_iload hC dL_law_264 rfl ?_
        refine hr_iconst (v := 1) hC dL_law_266 rfl ?_
        refine hr_iadd hC dL_law_267 ?_
        obtain ⟨c64, h⟩ := hk_ok h
        refine hr_sld hC hX hbl hbA c64 dL_law_268 ?_
        obtain ⟨r65, e66, h⟩ := hx_bind h
        refine hs_callS0W hC [_, _] _ dL_law_269 q2413 q2414 q314 q2415 np_X0 rfl pd_X0_input (Nat.le_of_ble_eq_true rfl) hd1 (okX0_input l E A (d - 1)  (by omega)  e66 am1) rfl ?_
        refine hr_istore hC dL_law_272 (by decide) ?_
        refine hr_aload_n hC dL_law_274 rfl ?_
        refine hr_aload_n hC dL_law_275 rfl ?_
        refine hr_iload hC dL_law_276 rfl ?_
        refine hr_iconst (v := 1) hC dL_law_278 rfl ?_
        refine hr_iadd hC dL_law_279 ?_
        obtain ⟨c69, h⟩ := hk_ok h
        refine hr_sld hC hX hbl hbA c69 dL_law_280 ?_
        obtain ⟨r70, e71, h⟩ := hx_bind h
        refine hs_callV0 hC 23 [_] _ dL_law_281 q3719 q3720 q3721 q335 q3722 np_X21 rfl OB_23 pd_X21_input (Nat.le_of_ble_eq_true rfl) hd1 (okX21_input l E A (d - 1)  (by omega)  e71 am1) rfl ?_
        refine hr_aload_n hC dL_law_284 rfl ?_
        obtain ⟨r74, e75, h⟩ := hx_bind h
        refine hs_callV0 hC 23 [] _ dL_law_285 q3103 q3104 q3105 q335 q3106 np_X21 rfl OB_23 pd_X21_thrown (Nat.le_of_ble_eq_true rfl) hd1 (okX21_thrown l E A (d - 1)  (by omega)  e75 am1) rfl ?_
        refine hr_iload hC dL_law_288 rfl ?_
        refine hr_icmp_eq (x := _) hC 295 dL_law_290 (by decide) (fun c79 => ?_) (fun c79 => ?_)
        · rw [if_pos c79] at h
          refine hr_goto hC 659 dL_law_295 (by decide) ?_
          refine hr_iinc (v := y4 + 6) hC dL_law_659 rfl rfl (by decide) ?_
          refine hr_goto hC 23 dL_law_662 (by decide) ?_
          exact hr_sub _ rfl (ih _ _ _ h hC am1)
        · rw [if_neg c79] at h
          refine hr_iconst (v := 0) hC dL_law_293 rfl ?_
          obtain rfl := Option.some.inj h
          exact hr_zret hC rfl dL_law_294
      rw [if_neg c240] at h
      by_cases c241 : (((xs y4.toNatClampNeg)) &&& 15) = 5
      · rw [if_pos c241] at h
        refine hr_tableIn hC 298 dL_law_40 (by rw [c241] <;> decide) (by rw [c241] <;> decide) (by rw [c241] <;> rfl) (by decide) ?_
        refine hr_aload_n hC dL_law_298 rfl ?_
        refine hr_aload_n hC dL_law_299 rfl ?_
        refine hr_iload hC dL_law_300 rfl ?_
        refine hr_iconst (v := 1) hC dL_law_302 rfl ?_
        refine hr_iadd hC dL_law_303 ?_
        obtain ⟨c80, h⟩ := hk_ok h
        refine hr_sld hC hX hbl hbA c80 dL_law_304 ?_
        refine hr_aload_n hC dL_law_305 rfl ?_
        refine hr_iload hC dL_law_306 rfl ?_
        refine hr_iconst (v := 2) hC dL_law_308 rfl ?_
        refine hr_iadd hC dL_law_309 ?_
        obtain ⟨c81, h⟩ := hk_ok h
        refine hr_sld hC hX hbl hbA c81 dL_law_310 ?_
        refine hr_aload_n hC dL_law_311 rfl ?_
        refine hr_iload hC dL_law_312 rfl ?_
        refine hr_iconst (v := 3) hC dL_law_314 rfl ?_
        refine hr_iadd hC dL_law_315 ?_
        obtain ⟨c82, h⟩ := hk_ok h
        refine hr_sld hC hX hbl hbA c82 dL_law_316 ?_
        refine hr_aload_n hC dL_law_317 rfl ?_
        obtain ⟨r83, e84, h⟩ := hx_bind h
        refine hs_callS0W hC [_, _, _, _, _] _ dL_law_318 q2420 q2421 q314 q2422 np_X0 rfl pd_X0_run (Nat.le_of_ble_eq_true rfl) hd1 (okX0_run l E A (d - 1) n (by omega)  e84 am1) rfl ?_
        refine hr_istore hC dL_law_321 (by decide) ?_
        refine hr_aload_n hC dL_law_323 rfl ?_
        refine hr_aload_n hC dL_law_324 rfl ?_
        refine hr_iload hC dL_law_325 rfl ?_
        refine hr_iconst (v := 1) hC dL_law_327 rfl ?_
        refine hr_iadd hC dL_law_328 ?_
        obtain ⟨c87, h⟩ := hk_ok h
        refine hr_sld hC hX hbl hbA c87 dL_law_329 ?_
        refine hr_aload_n hC dL_law_330 rfl ?_
        refine hr_iload hC dL_law_331 rfl ?_
        refine hr_iconst (v := 2) hC dL_law_333 rfl ?_
        refine hr_iadd hC dL_law_334 ?_
        obtain ⟨c88, h⟩ := hk_ok h
        refine hr_sld hC hX hbl hbA c88 dL_law_335 ?_
        refine hr_aload_n hC dL_law_336 rfl ?_
        refine hr_iload hC dL_law_337 rfl ?_
        refine hr_iconst (v := 3) hC dL_law_339 rfl ?_
        refine hr_iadd hC dL_law_340 ?_
        obtain ⟨c89, h⟩ := hk_ok h
        refine hr_sld hC hX hbl hbA c89 dL_law_341 ?_
        obtain ⟨r90, e91, h⟩ := hx_bind h
        refine hs_callV0 hC 23 [_, _, _] _ dL_law_342 q3547 q3548 q3549 q335 q3550 np_X21 rfl OB_23 pd_X21_run (Nat.le_of_ble_eq_true rfl) hd1 (okX21_run l E A (d - 1) n (by omega)  e91 am1) rfl ?_
        refine hr_istore hC dL_law_345 (by decide) ?_
        refine hr_aload_n hC dL_law_347 rfl ?_
        obtain ⟨r94, e95, h⟩ := hx_bind h
        refine hs_callV0 hC 23 [] _ dL_law_348 q3103 q3104 q3105 q335 q3106 np_X21 rfl OB_23 pd_X21_thrown (Nat.le_of_ble_eq_true rfl) hd1 (okX21_thrown l E A (d - 1)  (by omega)  e95 am1) rfl ?_
        refine hr_iload hC dL_law_351 rfl ?_
        refine hr_icmp_eq (x := _) hC 358 dL_law_353 (by decide) (fun c99 => ?_) (fun c99 => ?_)
        · rw [if_pos c99] at h
          refine hr_iload hC dL_law_358 rfl ?_
          refine hr_if_ne (x := _) hC 375 dL_law_360 (by decide) (fun c101 => ?_) (fun c101 => ?_)
          · rw [if_neg c101] at h
            refine hr_goto hC 659 dL_law_375 (by decide) ?_
            refine hr_iinc (v := y4 + 6) hC dL_law_659 rfl rfl (by decide) ?_
            refine hr_goto hC 23 dL_law_662 (by decide) ?_
            exact hr_sub _ rfl (ih _ _ _ h hC am1)
          · rw [if_pos c101] at h
            refine hr_aload_n hC dL_law_363 rfl ?_
            refine hr_iconst (v := 0) hC dL_law_364 rfl ?_
            obtain ⟨c102, h⟩ := hk_ok h
            refine hs_lald hC A24_0 c102 dL_law_365 ?_
            refine hr_iload hC dL_law_366 rfl ?_
            refine hr_i2l hC dL_law_368 ?_
            refine hr_lcmp hC dL_law_369 ?_
            refine hr_if_eq (x := _) hC 375 dL_law_370 (by decide) (fun c104 => ?_) (fun c104 => ?_)
            · rw [if_pos c104] at h
              refine hr_goto hC 659 dL_law_375 (by decide) ?_
              refine hr_iinc (v := y4 + 6) hC dL_law_659 rfl rfl (by decide) ?_
              refine hr_goto hC 23 dL_law_662 (by decide) ?_
              exact hr_sub _ rfl (ih _ _ _ h hC am1)
            · rw [if_neg c104] at h
              refine hr_iconst (v := 0) hC dL_law_373 rfl ?_
              obtain rfl := Option.some.inj h
              exact hr_zret hC rfl dL_law_374
        · rw [if_neg c99] at h
          refine hr_iconst (v := 0) hC dL_law_356 rfl ?_
          obtain rfl := Option.some.inj h
          exact hr_zret hC rfl dL_law_357
      rw [if_neg c241] at h
      by_cases c242 : (((xs y4.toNatClampNeg)) &&& 15) = 6
      · rw [if_pos c242] at h
        refine hr_tableIn hC 378 dL_law_40 (by rw [c242] <;> decide) (by rw [c242] <;> decide) (by rw [c242] <;> rfl) (by decide) ?_
        refine hr_aload_n hC dL_law_378 rfl ?_
        obtain ⟨r105, e106, h⟩ := hx_bind h
        refine hs_callV0 hC 0 [] _ dL_law_379 q2350 q2351 q2352 q315 q2353 np_X1 rfl OB_0 pd_X1_value (Nat.le_of_ble_eq_true rfl) hd1 (okX1_value l E A (d - 1)  (by omega)  e106 am1) rfl ?_
        refine hr_aload_n hC dL_law_382 rfl ?_
        obtain ⟨r109, e110, h⟩ := hx_bind h
        refine hs_callV0 hC 23 [] _ dL_law_383 q3723 q3724 q3725 q335 q3726 np_X21 rfl OB_23 pd_X21_value (Nat.le_of_ble_eq_true rfl) hd1 (okX21_value l E A (d - 1)  (by omega)  e110 am1) rfl ?_
        refine hr_icmp_eq (x := _) hC 659 dL_law_386 (by decide) (fun c114 => ?_) (fun c114 => ?_)
        · rw [if_pos c114] at h
          refine hr_iinc (v := y4 + 6) hC dL_law_659 rfl rfl (by decide) ?_
          refine hr_goto hC 23 dL_law_662 (by decide) ?_
          exact hr_sub _ rfl (ih _ _ _ h hC am1)
        · rw [if_neg c114] at h
          refine hr_iconst (v := 0) hC dL_law_389 rfl ?_
          obtain rfl := Option.some.inj h
          exact hr_zret hC rfl dL_law_390
      rw [if_neg c242] at h
      by_cases c243 : (((xs y4.toNatClampNeg)) &&& 15) = 7
      · rw [if_pos c243] at h
        refine hr_tableIn hC 391 dL_law_40 (by rw [c243] <;> decide) (by rw [c243] <;> decide) (by rw [c243] <;> rfl) (by decide) ?_
        refine hr_aload_n hC dL_law_391 rfl ?_
        obtain ⟨r115, e116, h⟩ := hx_bind h
        refine hs_callV0 hC 0 [] _ dL_law_392 q2354 q2355 q2356 q315 q2357 np_X1 rfl OB_0 pd_X1_left (Nat.le_of_ble_eq_true rfl) hd1 (okX1_left l E A (d - 1)  (by omega)  e116 am1) rfl ?_
        refine hr_aload_n hC dL_law_395 rfl ?_
        obtain ⟨r119, e120, h⟩ := hx_bind h
        refine hs_callV0 hC 23 [] _ dL_law_396 q3727 q3728 q3729 q335 q3730 np_X21 rfl OB_23 pd_X21_left (Nat.le_of_ble_eq_true rfl) hd1 (okX21_left l E A (d - 1)  (by omega)  e120 am1) rfl ?_
        refine hr_icmp_eq (x := _) hC 659 dL_law_399 (by decide) (fun c124 => ?_) (fun c124 => ?_)
        · rw [if_pos c124] at h
          refine hr_iinc (v := y4 + 6) hC dL_law_659 rfl rfl (by decide) ?_
          refine hr_goto hC 23 dL_law_662 (by decide) ?_
          exact hr_sub _ rfl (ih _ _ _ h hC am1)
        · rw [if_neg c124] at h
          refine hr_iconst (v := 0) hC dL_law_402 rfl ?_
          obtain rfl := Option.some.inj h
          exact hr_zret hC rfl dL_law_403
      rw [if_neg c243] at h
      by_cases c244 : (((xs y4.toNatClampNeg)) &&& 15) = 8
      · rw [if_pos c244] at h
        refine hr_tableIn hC 404 dL_law_40 (by rw [c244] <;> decide) (by rw [c244] <;> decide) (by rw [c244] <;> rfl) (by decide) ?_
        refine hr_aload_n hC dL_law_404 rfl ?_
        obtain ⟨r125, e126, h⟩ := hx_bind h
        refine hs_callV0 hC 0 [] _ dL_law_405 q2358 q2359 q2360 q315 q2361 np_X1 rfl OB_0 pd_X1_paper (Nat.le_of_ble_eq_true rfl) hd1 (okX1_paper l E A (d - 1)  (by omega)  e126 am1) rfl ?_
        refine hr_aload_n hC dL_law_408 rfl ?_
        obtain ⟨r129, e130, h⟩ := hx_bind h
        refine hs_callV0 hC 23 [] _ dL_law_409 q3731 q3732 q3733 q335 q3734 np_X21 rfl OB_23 pd_X21_paper (Nat.le_of_ble_eq_true rfl) hd1 (okX21_paper l E A (d - 1)  (by omega)  e130 am1) rfl ?_
        refine hr_icmp_eq (x := _) hC 659 dL_law_412 (by decide) (fun c134 => ?_) (fun c134 => ?_)
        · rw [if_pos c134] at h
          refine hr_iinc (v := y4 + 6) hC dL_law_659 rfl rfl (by decide) ?_
          refine hr_goto hC 23 dL_law_662 (by decide) ?_
          exact hr_sub _ rfl (ih _ _ _ h hC am1)
        · rw [if_neg c134] at h
          refine hr_iconst (v := 0) hC dL_law_415 rfl ?_
          obtain rfl := Option.some.inj h
          exact hr_zret hC rfl dL_law_416
      rw [if_neg c244] at h
      by_cases c245 : (((xs y4.toNatClampNeg)) &&& 15) = 9
      · rw [if_pos c245] at h
        refine hr_tableIn hC 417 dL_law_40 (by rw [c245] <;> decide) (by rw [c245] <;> decide) (by rw [c245] <;> rfl) (by decide) ?_
        refine hr_aload_n hC dL_law_417 rfl ?_
        refine hr_aload_n hC dL_law_418 rfl ?_
        refine hr_iload hC dL_law_419 rfl ?_
        refine hr_iconst (v := 1) hC dL_law_421 rfl ?_
        refine hr_iadd hC dL_law_422 ?_
        obtain ⟨c135, h⟩ := hk_ok h
        refine hr_sld hC hX hbl hbA c135 dL_law_423 ?_
        refine hr_aload_n hC dL_law_424 rfl ?_
        obtain ⟨r136, e137, h⟩ := hx_bind h
        refine hs_callS0W hC [_, _, _] _ dL_law_425 q2683 q2684 q314 q2685 np_X0 rfl pd_X0_paperAt (Nat.le_of_ble_eq_true rfl) hd1 (okX0_paperAt l E A (d - 1)  (by omega)  e137 am1) rfl ?_
        refine hr_istore hC dL_law_428 (by decide) ?_
        refine hr_aload_n hC dL_law_430 rfl ?_
        refine hr_aload_n hC dL_law_431 rfl ?_
        refine hr_iload hC dL_law_432 rfl ?_
        refine hr_iconst (v := 1) hC dL_law_434 rfl ?_
        refine hr_iadd hC dL_law_435 ?_
        obtain ⟨c140, h⟩ := hk_ok h
        refine hr_sld hC hX hbl hbA c140 dL_law_436 ?_
        obtain ⟨r141, e142, h⟩ := hx_bind h
        refine hs_callV0 hC 23 [_] _ dL_law_437 q3735 q3736 q3737 q335 q3738 np_X21 rfl OB_23 pd_X21_paperAt (Nat.le_of_ble_eq_true rfl) hd1 (okX21_paperAt l E A (d - 1)  (by omega)  e142 am1) rfl ?_
        refine hr_istore hC dL_law_440 (by decide) ?_
        refine hr_aload_n hC dL_law_442 rfl ?_
        obtain ⟨r145, e146, h⟩ := hx_bind h
        refine hs_callV0 hC 23 [] _ dL_law_443 q3103 q3104 q3105 q335 q3106 np_X21 rfl OB_23 pd_X21_thrown (Nat.le_of_ble_eq_true rfl) hd1 (okX21_thrown l E A (d - 1)  (by omega)  e146 am1) rfl ?_
        refine hr_iload hC dL_law_446 rfl ?_
        refine hr_icmp_eq (x := _) hC 453 dL_law_448 (by decide) (fun c150 => ?_) (fun c150 => ?_)
        · rw [if_pos c150] at h
          refine hr_iload hC dL_law_453 rfl ?_
          refine hr_if_ne (x := _) hC 470 dL_law_455 (by decide) (fun c152 => ?_) (fun c152 => ?_)
          · rw [if_neg c152] at h
            refine hr_goto hC 659 dL_law_470 (by decide) ?_
            refine hr_iinc (v := y4 + 6) hC dL_law_659 rfl rfl (by decide) ?_
            refine hr_goto hC 23 dL_law_662 (by decide) ?_
            exact hr_sub _ rfl (ih _ _ _ h hC am1)
          · rw [if_pos c152] at h
            refine hr_aload_n hC dL_law_458 rfl ?_
            refine hr_iconst (v := 0) hC dL_law_459 rfl ?_
            obtain ⟨c153, h⟩ := hk_ok h
            refine hs_lald hC A24_0 c153 dL_law_460 ?_
            refine hr_iload hC dL_law_461 rfl ?_
            refine hr_i2l hC dL_law_463 ?_
            refine hr_lcmp hC dL_law_464 ?_
            refine hr_if_eq (x := _) hC 470 dL_law_465 (by decide) (fun c155 => ?_) (fun c155 => ?_)
            · rw [if_pos c155] at h
              refine hr_goto hC 659 dL_law_470 (by decide) ?_
              refine hr_iinc (v := y4 + 6) hC dL_law_659 rfl rfl (by decide) ?_
              refine hr_goto hC 23 dL_law_662 (by decide) ?_
              exact hr_sub _ rfl (ih _ _ _ h hC am1)
            · rw [if_neg c155] at h
              refine hr_iconst (v := 0) hC dL_law_468 rfl ?_
              obtain rfl := Option.some.inj h
              exact hr_zret hC rfl dL_law_469
        · rw [if_neg c150] at h
          refine hr_iconst (v := 0) hC dL_law_451 rfl ?_
          obtain rfl := Option.some.inj h
          exact hr_zret hC rfl dL_law_452
      rw [if_neg c245] at h
      by_cases c246 : (((xs y4.toNatClampNeg)) &&& 15) = 10
      · rw [if_pos c246] at h
        refine hr_tableIn hC 473 dL_law_40 (by rw [c246] <;> decide) (by rw [c246] <;> decide) (by rw [c246] <;> rfl) (by decide) ?_
        refine hr_aload_n hC dL_law_473 rfl ?_
        obtain ⟨r156, e157, h⟩ := hx_bind h
        refine hs_callV0 hC 0 [] _ dL_law_474 q2362 q2363 q2364 q315 q2365 np_X1 rfl OB_0 pd_X1_inputs (Nat.le_of_ble_eq_true rfl) hd1 (okX1_inputs l E A (d - 1)  (by omega)  e157 am1) rfl ?_
        refine hr_aload_n hC dL_law_477 rfl ?_
        obtain ⟨r160, e161, h⟩ := hx_bind h
        refine hs_callV0 hC 23 [] _ dL_law_478 q3739 q3740 q3741 q335 q3742 np_X21 rfl OB_23 pd_X21_inputs (Nat.le_of_ble_eq_true rfl) hd1 (okX21_inputs l E A (d - 1)  (by omega)  e161 am1) rfl ?_
        refine hr_icmp_eq (x := _) hC 659 dL_law_481 (by decide) (fun c165 => ?_) (fun c165 => ?_)
        · rw [if_pos c165] at h
          refine hr_iinc (v := y4 + 6) hC dL_law_659 rfl rfl (by decide) ?_
          refine hr_goto hC 23 dL_law_662 (by decide) ?_
          exact hr_sub _ rfl (ih _ _ _ h hC am1)
        · rw [if_neg c165] at h
          refine hr_iconst (v := 0) hC dL_law_484 rfl ?_
          obtain rfl := Option.some.inj h
          exact hr_zret hC rfl dL_law_485
      rw [if_neg c246] at h
      by_cases c247 : (((xs y4.toNatClampNeg)) &&& 15) = 11
      · rw [if_pos c247] at h
        refine hr_tableIn hC 486 dL_law_40 (by rw [c247] <;> decide) (by rw [c247] <;> decide) (by rw [c247] <;> rfl) (by decide) ?_
        refine hr_aload_n hC dL_law_486 rfl ?_
        refine hr_aload_n hC dL_law_487 rfl ?_
        refine hr_iload hC dL_law_488 rfl ?_
        refine hr_iconst (v := 1) hC dL_law_490 rfl ?_
        refine hr_iadd hC dL_law_491 ?_
        obtain ⟨c166, h⟩ := hk_ok h
        refine hr_sld hC hX hbl hbA c166 dL_law_492 ?_
        refine hr_aload_n hC dL_law_493 rfl ?_
        obtain ⟨r167, e168, h⟩ := hx_bind h
        refine hs_callS0W hC [_, _, _] _ dL_law_494 q2728 q2729 q314 q2730 np_X0 rfl pd_X0_disk (Nat.le_of_ble_eq_true rfl) hd1 (okX0_disk l E A (d - 1)  (by omega)  e168 am1) rfl ?_
        refine hr_istore hC dL_law_497 (by decide) ?_
        refine hr_aload_n hC dL_law_499 rfl ?_
        refine hr_aload_n hC dL_law_500 rfl ?_
        refine hr_iload hC dL_law_501 rfl ?_
        refine hr_iconst (v := 1) hC dL_law_503 rfl ?_
        refine hr_iadd hC dL_law_504 ?_
        obtain ⟨c171, h⟩ := hk_ok h
        refine hr_sld hC hX hbl hbA c171 dL_law_505 ?_
        obtain ⟨r172, e173, h⟩ := hx_bind h
        refine hs_callV0 hC 23 [_] _ dL_law_506 q3743 q3744 q3745 q335 q3746 np_X21 rfl OB_23 pd_X21_disk (Nat.le_of_ble_eq_true rfl) hd1 (okX21_disk l E A (d - 1)  (by omega)  e173 am1) rfl ?_
        refine hr_istore hC dL_law_509 (by decide) ?_
        refine hr_aload_n hC dL_law_511 rfl ?_
        obtain ⟨r176, e177, h⟩ := hx_bind h
        refine hs_callV0 hC 23 [] _ dL_law_512 q3103 q3104 q3105 q335 q3106 np_X21 rfl OB_23 pd_X21_thrown (Nat.le_of_ble_eq_true rfl) hd1 (okX21_thrown l E A (d - 1)  (by omega)  e177 am1) rfl ?_
        refine hr_iload hC dL_law_515 rfl ?_
        refine hr_icmp_eq (x := _) hC 522 dL_law_517 (by decide) (fun c181 => ?_) (fun c181 => ?_)
        · rw [if_pos c181] at h
          refine hr_iload hC dL_law_522 rfl ?_
          refine hr_if_ne (x := _) hC 539 dL_law_524 (by decide) (fun c183 => ?_) (fun c183 => ?_)
          · rw [if_neg c183] at h
            refine hr_goto hC 659 dL_law_539 (by decide) ?_
            refine hr_iinc (v := y4 + 6) hC dL_law_659 rfl rfl (by decide) ?_
            refine hr_goto hC 23 dL_law_662 (by decide) ?_
            exact hr_sub _ rfl (ih _ _ _ h hC am1)
          · rw [if_pos c183] at h
            refine hr_aload_n hC dL_law_527 rfl ?_
            refine hr_iconst (v := 0) hC dL_law_528 rfl ?_
            obtain ⟨c184, h⟩ := hk_ok h
            refine hs_lald hC A24_0 c184 dL_law_529 ?_
            refine hr_iload hC dL_law_530 rfl ?_
            refine hr_i2l hC dL_law_532 ?_
            refine hr_lcmp hC dL_law_533 ?_
            refine hr_if_eq (x := _) hC 539 dL_law_534 (by decide) (fun c186 => ?_) (fun c186 => ?_)
            · rw [if_pos c186] at h
              refine hr_goto hC 659 dL_law_539 (by decide) ?_
              refine hr_iinc (v := y4 + 6) hC dL_law_659 rfl rfl (by decide) ?_
              refine hr_goto hC 23 dL_law_662 (by decide) ?_
              exact hr_sub _ rfl (ih _ _ _ h hC am1)
            · rw [if_neg c186] at h
              refine hr_iconst (v := 0) hC dL_law_537 rfl ?_
              obtain rfl := Option.some.inj h
              exact hr_zret hC rfl dL_law_538
        · rw [if_neg c181] at h
          refine hr_iconst (v := 0) hC dL_law_520 rfl ?_
          obtain rfl := Option.some.inj h
          exact hr_zret hC rfl dL_law_521
      rw [if_neg c247] at h
      by_cases c248 : (((xs y4.toNatClampNeg)) &&& 15) = 12
      · rw [if_pos c248] at h
        refine hr_tableIn hC 542 dL_law_40 (by rw [c248] <;> decide) (by rw [c248] <;> decide) (by rw [c248] <;> rfl) (by decide) ?_
        refine hr_aload_n hC dL_law_542 rfl ?_
        refine hr_aload_n hC dL_law_543 rfl ?_
        refine hr_iload hC dL_law_544 rfl ?_
        refine hr_iconst (v := 1) hC dL_law_546 rfl ?_
        refine hr_iadd hC dL_law_547 ?_
        obtain ⟨c187, h⟩ := hk_ok h
        refine hr_sld hC hX hbl hbA c187 dL_law_548 ?_
        refine hr_aload_n hC dL_law_549 rfl ?_
        refine hr_iload hC dL_law_550 rfl ?_
        refine hr_iconst (v := 2) hC dL_law_552 rfl ?_
        refine hr_iadd hC dL_law_553 ?_
        obtain ⟨c188, h⟩ := hk_ok h
        refine hr_sld hC hX hbl hbA c188 dL_law_554 ?_
        obtain ⟨r189, e190, h⟩ := hx_bind h
        refine hs_callS0W hC [_, _, _] _ dL_law_555 q2735 q2736 q314 q2737 np_X0 rfl pd_X0_setDisk (Nat.le_of_ble_eq_true rfl) hd1 (okX0_setDisk l E A (d - 1)  (by omega)  e190 am1) rfl ?_
        refine hr_istore hC dL_law_558 (by decide) ?_
        refine hr_aload_n hC dL_law_560 rfl ?_
        refine hr_aload_n hC dL_law_561 rfl ?_
        refine hr_iload hC dL_law_562 rfl ?_
        refine hr_iconst (v := 1) hC dL_law_564 rfl ?_
        refine hr_iadd hC dL_law_565 ?_
        obtain ⟨c193, h⟩ := hk_ok h
        refine hr_sld hC hX hbl hbA c193 dL_law_566 ?_
        refine hr_aload_n hC dL_law_567 rfl ?_
        refine hr_iload hC dL_law_568 rfl ?_
        refine hr_iconst (v := 2) hC dL_law_570 rfl ?_
        refine hr_iadd hC dL_law_571 ?_
        obtain ⟨c194, h⟩ := hk_ok h
        refine hr_sld hC hX hbl hbA c194 dL_law_572 ?_
        obtain ⟨r195, e196, h⟩ := hx_bind h
        refine hs_callV0 hC 23 [_, _] _ dL_law_573 q3747 q3748 q3749 q335 q3750 np_X21 rfl OB_23 pd_X21_setDisk (Nat.le_of_ble_eq_true rfl) hd1 (okX21_setDisk l E A (d - 1)  (by omega)  e196 am1) rfl ?_
        refine hr_aload_n hC dL_law_576 rfl ?_
        obtain ⟨r199, e200, h⟩ := hx_bind h
        refine hs_callV0 hC 23 [] _ dL_law_577 q3103 q3104 q3105 q335 q3106 np_X21 rfl OB_23 pd_X21_thrown (Nat.le_of_ble_eq_true rfl) hd1 (okX21_thrown l E A (d - 1)  (by omega)  e200 am1) rfl ?_
        refine hr_iload hC dL_law_580 rfl ?_
        refine hr_icmp_eq (x := _) hC 587 dL_law_582 (by decide) (fun c204 => ?_) (fun c204 => ?_)
        · rw [if_pos c204] at h
          refine hr_goto hC 659 dL_law_587 (by decide) ?_
          refine hr_iinc (v := y4 + 6) hC dL_law_659 rfl rfl (by decide) ?_
          refine hr_goto hC 23 dL_law_662 (by decide) ?_
          exact hr_sub _ rfl (ih _ _ _ h hC am1)
        · rw [if_neg c204] at h
          refine hr_iconst (v := 0) hC dL_law_585 rfl ?_
          obtain rfl := Option.some.inj h
          exact hr_zret hC rfl dL_law_586
      rw [if_neg c248] at h
      by_cases c249 : (((xs y4.toNatClampNeg)) &&& 15) = 13
      · rw [if_pos c249] at h
        refine hr_tableIn hC 590 dL_law_40 (by rw [c249] <;> decide) (by rw [c249] <;> decide) (by rw [c249] <;> rfl) (by decide) ?_
        refine hr_aload_n hC dL_law_590 rfl ?_
        refine hr_aload_n hC dL_law_591 rfl ?_
        refine hr_iload hC dL_law_592 rfl ?_
        refine hr_iconst (v := 1) hC dL_law_594 rfl ?_
        refine hr_iadd hC dL_law_595 ?_
        obtain ⟨c205, h⟩ := hk_ok h
        refine hr_sld hC hX hbl hbA c205 dL_law_596 ?_
        refine hr_aload_n hC dL_law_597 rfl ?_
        obtain ⟨r206, e207, h⟩ := hx_bind h
        refine hs_callS0W hC [_, _, _] _ dL_law_598 q2742 q2743 q314 q2744 np_X0 rfl pd_X0_variable (Nat.le_of_ble_eq_true rfl) hd1 (okX0_variable l E A (d - 1)  (by omega)  e207 am1) rfl ?_
        refine hr_istore hC dL_law_601 (by decide) ?_
        refine hr_aload_n hC dL_law_603 rfl ?_
        refine hr_aload_n hC dL_law_604 rfl ?_
        refine hr_iload hC dL_law_605 rfl ?_
        refine hr_iconst (v := 1) hC dL_law_607 rfl ?_
        refine hr_iadd hC dL_law_608 ?_
        obtain ⟨c210, h⟩ := hk_ok h
        refine hr_sld hC hX hbl hbA c210 dL_law_609 ?_
        obtain ⟨r211, e212, h⟩ := hx_bind h
        refine hs_callV0 hC 23 [_] _ dL_law_610 q3751 q3752 q3753 q335 q3754 np_X21 rfl OB_23 pd_X21_variable_2 (Nat.le_of_ble_eq_true rfl) hd1 (okX21_variable_2 l E A (d - 1) n (by omega)  e212 am1) rfl ?_
        refine hr_istore hC dL_law_613 (by decide) ?_
        refine hr_aload_n hC dL_law_615 rfl ?_
        obtain ⟨r215, e216, h⟩ := hx_bind h
        refine hs_callV0 hC 23 [] _ dL_law_616 q3103 q3104 q3105 q335 q3106 np_X21 rfl OB_23 pd_X21_thrown (Nat.le_of_ble_eq_true rfl) hd1 (okX21_thrown l E A (d - 1)  (by omega)  e216 am1) rfl ?_
        refine hr_iload hC dL_law_619 rfl ?_
        refine hr_icmp_eq (x := _) hC 626 dL_law_621 (by decide) (fun c220 => ?_) (fun c220 => ?_)
        · rw [if_pos c220] at h
          refine hr_iload hC dL_law_626 rfl ?_
          refine hr_if_ne (x := _) hC 643 dL_law_628 (by decide) (fun c222 => ?_) (fun c222 => ?_)
          · rw [if_neg c222] at h
            refine hr_goto hC 659 dL_law_643 (by decide) ?_
            refine hr_iinc (v := y4 + 6) hC dL_law_659 rfl rfl (by decide) ?_
            refine hr_goto hC 23 dL_law_662 (by decide) ?_
            exact hr_sub _ rfl (ih _ _ _ h hC am1)
          · rw [if_pos c222] at h
            refine hr_aload_n hC dL_law_631 rfl ?_
            refine hr_iconst (v := 0) hC dL_law_632 rfl ?_
            obtain ⟨c223, h⟩ := hk_ok h
            refine hs_lald hC A24_0 c223 dL_law_633 ?_
            refine hr_iload hC dL_law_634 rfl ?_
            refine hr_i2l hC dL_law_636 ?_
            refine hr_lcmp hC dL_law_637 ?_
            refine hr_if_eq (x := _) hC 643 dL_law_638 (by decide) (fun c225 => ?_) (fun c225 => ?_)
            · rw [if_pos c225] at h
              refine hr_goto hC 659 dL_law_643 (by decide) ?_
              refine hr_iinc (v := y4 + 6) hC dL_law_659 rfl rfl (by decide) ?_
              refine hr_goto hC 23 dL_law_662 (by decide) ?_
              exact hr_sub _ rfl (ih _ _ _ h hC am1)
            · rw [if_neg c225] at h
              refine hr_iconst (v := 0) hC dL_law_641 rfl ?_
              obtain rfl := Option.some.inj h
              exact hr_zret hC rfl dL_law_642
        · rw [if_neg c220] at h
          refine hr_iconst (v := 0) hC dL_law_624 rfl ?_
          obtain rfl := Option.some.inj h
          exact hr_zret hC rfl dL_law_625
      rw [if_neg c249] at h
      by_cases c250 : (((xs y4.toNatClampNeg)) &&& 15) = 14
      · rw [if_pos c250] at h
        refine hr_tableIn hC 646 dL_law_40 (by rw [c250] <;> decide) (by rw [c250] <;> decide) (by rw [c250] <;> rfl) (by decide) ?_
        refine hr_aload_n hC dL_law_646 rfl ?_
        obtain ⟨r226, e227, h⟩ := hx_bind h
        refine hs_callV0 hC 0 [] _ dL_law_647 q2366 q2367 q2368 q315 q2369 np_X1 rfl OB_0 pd_X1_life (Nat.le_of_ble_eq_true rfl) hd1 (okX1_life l E A (d - 1)  (by omega)  e227 am1) rfl ?_
        refine hr_aload_n hC dL_law_650 rfl ?_
        obtain ⟨r230, e231, h⟩ := hx_bind h
        refine hs_callV0 hC 23 [] _ dL_law_651 q3715 q3716 q3717 q335 q3718 np_X21 rfl OB_23 pd_X21_life (Nat.le_of_ble_eq_true rfl) hd1 (okX21_life l E A (d - 1)  (by omega)  e231 am1) rfl ?_
        refine hr_icmp_eq (x := _) hC 659 dL_law_654 (by decide) (fun c235 => ?_) (fun c235 => ?_)
        · rw [if_pos c235] at h
          refine hr_iinc (v := y4 + 6) hC dL_law_659 rfl rfl (by decide) ?_
          refine hr_goto hC 23 dL_law_662 (by decide) ?_
          exact hr_sub _ rfl (ih _ _ _ h hC am1)
        · rw [if_neg c235] at h
          refine hr_iconst (v := 0) hC dL_law_657 rfl ?_
          obtain rfl := Option.some.inj h
          exact hr_zret hC rfl dL_law_658
      rw [if_neg c250] at h
      refine hr_tableD hC 659 dL_law_40 (ks := [0, 1, 2, 3, 4, 5, 6, 7, 8, 9, 10, 11, 12, 13, 14]) (hc_l1 (hc_ne c236 rfl) (hc_l1 (hc_ne c237 rfl) (hc_l1 (hc_ne c238 rfl) (hc_l1 (hc_ne c239 rfl) (hc_l1 (hc_ne c240 rfl) (hc_l1 (hc_ne c241 rfl) (hc_l1 (hc_ne c242 rfl) (hc_l1 (hc_ne c243 rfl) (hc_l1 (hc_ne c244 rfl) (hc_l1 (hc_ne c245 rfl) (hc_l1 (hc_ne c246 rfl) (hc_l1 (hc_ne c247 rfl) (hc_l1 (hc_ne c248 rfl) (hc_l1 (hc_ne c249 rfl) (hc_l1 (hc_ne c250 rfl) hc_l0))))))))))))))) (by decide) (by decide) (by decide) ?_
      refine hr_iinc (v := y4 + 6) hC dL_law_659 rfl rfl (by decide) ?_
      refine hr_goto hC 23 dL_law_662 (by decide) ?_
      exact hr_sub _ rfl (ih _ _ _ h hC am1)
/-- the law behind its first three objects -/
def fm_L_law (n k0 L : Nat) (xs : Nat → Int32) (σ : hc_St) : Option (Int32 × hc_St) := lp_L_law_23 n k0 L xs n 0 σ
