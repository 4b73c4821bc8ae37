set_option maxRecDepth 20000
/-- HomeCompilerModel.step()V -/
def fm_X21_step (n : Nat)  (σ : hc_St) : Option hc_St := hk (inb ((((gI σ 23 69)) - 1)) (gL σ 23 70)) <| hk (inb ((((gI σ 23 69)) - 1)) (gL σ 23 71)) <| hk (inb ((gC σ 23 70 ((((gI σ 23 69)) - 1)))) (gL σ 23 18)) <| if (gC σ 23 18 ((gC σ 23 70 ((((gI σ 23 69)) - 1))))).toInt8.toInt32 < 20 then (hk (inb ((gC σ 23 70 ((((gI σ 23 69)) - 1)))) (gL σ 23 18)) <| Option.bind (α := hc_St) (if (gC σ 23 18 ((gC σ 23 70 ((((gI σ 23 69)) - 1))))).toInt8.toInt32 = 1 then (hk (inb ((gC σ 23 70 ((((gI σ 23 69)) - 1)))) (gL σ 23 19)) <| hk (inb ((gC σ 23 19 ((gC σ 23 70 ((((gI σ 23 69)) - 1)))))) (gL σ 23 14)) <| Option.bind (fm_X21_done ((gC σ 23 14 ((gC σ 23 19 ((gC σ 23 70 ((((gI σ 23 69)) - 1)))))))) σ) fun r17 => some (r17)) else if (gC σ 23 18 ((gC σ 23 70 ((((gI σ 23 69)) - 1))))).toInt8.toInt32 = 2 then (hk (inb ((gC σ 23 70 ((((gI σ 23 69)) - 1)))) (gL σ 23 22)) <| Option.bind (α := Int32) (if 0 ≤ (gC σ 23 22 ((gC σ 23 70 ((((gI σ 23 69)) - 1))))) then (hk (inb ((gC σ 23 70 ((((gI σ 23 69)) - 1)))) (gL σ 23 22)) <| Option.bind (fm_X21_cellOf ((gC σ 23 22 ((gC σ 23 70 ((((gI σ 23 69)) - 1)))))) σ) fun r29 => hk (inb r29 (gL σ 23 66)) <| some ((gC σ 23 66 r29))) else (hk (inb ((gC σ 23 70 ((((gI σ 23 69)) - 1)))) (gL σ 23 23)) <| some ((gC σ 23 23 ((gC σ 23 70 ((((gI σ 23 69)) - 1)))))))) fun r24 => Option.bind (fm_X21_done r24 σ) fun r35 => some (r35)) else if (gC σ 23 18 ((gC σ 23 70 ((((gI σ 23 69)) - 1))))).toInt8.toInt32 = 3 then (Option.bind (fm_X21_doCall n ((gC σ 23 70 ((((gI σ 23 69)) - 1)))) ((gC σ 23 71 ((((gI σ 23 69)) - 1)))) σ) fun r39 => some (r39)) else if (gC σ 23 18 ((gC σ 23 70 ((((gI σ 23 69)) - 1))))).toInt8.toInt32 = 4 then (if (gC σ 23 71 ((((gI σ 23 69)) - 1))) = 0 then (Option.bind (fm_X21_state 1 σ) fun r65 => hk (inb ((gC σ 23 70 ((((gI σ 23 69)) - 1)))) (gL r65 23 21)) <| Option.bind (fm_X21_push ((gC r65 23 21 ((gC σ 23 70 ((((gI σ 23 69)) - 1)))))) r65) fun r70 => some (r70)) else (hk (inb ((gC σ 23 70 ((((gI σ 23 69)) - 1)))) (gL σ 23 22)) <| Option.bind (fm_X21_take_2  σ) fun r46 => Option.bind (fm_X21_elementAt ((gC σ 23 22 ((gC σ 23 70 ((((gI σ 23 69)) - 1)))))) r46.1 r46.2) fun r50 => Option.bind (α := hc_St) (if r50.1 < 0 then (some (r50.2)) else (hk (inb r50.1 (gL r50.2 23 66)) <| Option.bind (fm_X21_done ((gC r50.2 23 66 r50.1)) r50.2) fun r61 => some (r61))) fun r56 => some (r56))) else if (gC σ 23 18 ((gC σ 23 70 ((((gI σ 23 69)) - 1))))).toInt8.toInt32 = 5 then (Option.bind (fm_X21_doUnary ((gC σ 23 70 ((((gI σ 23 69)) - 1)))) ((gC σ 23 71 ((((gI σ 23 69)) - 1)))) σ) fun r74 => some (r74)) else if (gC σ 23 18 ((gC σ 23 70 ((((gI σ 23 69)) - 1))))).toInt8.toInt32 = 6 then (Option.bind (fm_X21_doStep ((gC σ 23 70 ((((gI σ 23 69)) - 1)))) ((gC σ 23 71 ((((gI σ 23 69)) - 1)))) 0 σ) fun r78 => some (r78)) else if (gC σ 23 18 ((gC σ 23 70 ((((gI σ 23 69)) - 1))))).toInt8.toInt32 = 7 then (Option.bind (fm_X21_doChain ((gC σ 23 70 ((((gI σ 23 69)) - 1)))) ((gC σ 23 71 ((((gI σ 23 69)) - 1)))) σ) fun r82 => some (r82)) else if (gC σ 23 18 ((gC σ 23 70 ((((gI σ 23 69)) - 1))))).toInt8.toInt32 = 8 then (if (gC σ 23 71 ((((gI σ 23 69)) - 1))) = 0 then (Option.bind (fm_X21_state 1 σ) fun r105 => hk (inb ((gC σ 23 70 ((((gI σ 23 69)) - 1)))) (gL r105 23 21)) <| Option.bind (fm_X21_push ((gC r105 23 21 ((gC σ 23 70 ((((gI σ 23 69)) - 1)))))) r105) fun r110 => some (r110)) else (Option.bind (fm_X21_take_2  σ) fun r88 => Option.bind (α := Int32) (if r88.1 = 0 then (hk (inb ((gC σ 23 70 ((((gI σ 23 69)) - 1)))) (gL r88.2 23 23)) <| some ((gC r88.2 23 23 ((gC σ 23 70 ((((gI σ 23 69)) - 1))))))) else (hk (inb ((gC σ 23 70 ((((gI σ 23 69)) - 1)))) (gL r88.2 23 22)) <| some ((gC r88.2 23 22 ((gC σ 23 70 ((((gI σ 23 69)) - 1)))))))) fun r94 => hl (pI r88.2 23 69 ((((gI r88.2 23 69)) - 1))) fun σ100 => Option.bind (fm_X21_push r94 σ100) fun r101 => some (r101))) else (Option.bind (fm_X21_doAssign ((gC σ 23 70 ((((gI σ 23 69)) - 1)))) ((gC σ 23 71 ((((gI σ 23 69)) - 1)))) σ) fun r11 => some (r11))) fun r7 => some r7) else (Option.bind (fm_X21_doStatement n ((gC σ 23 70 ((((gI σ 23 69)) - 1)))) ((gC σ 23 71 ((((gI σ 23 69)) - 1)))) σ) fun r122 => some r122)
set_option maxRecDepth 20000 in
set_option maxHeartbeats 4000000 in
theorem okX21_step (l : Launch) (E : hc_E) (A : Nat → Prop) (d : Nat) (n : Nat) (hD : 12 ≤ d)  {σ : hc_St} {r : hc_St} (h : fm_X21_step n  σ = some r) (am : Nat → Nat → Nat) : hc_M l hc_V0 yX21_step (ws_ yX21_step cX21_step 4 none) d E A [.ref (E.2.1 23)] am [] σ (.inl none) r := by
  have hd1 : 1 ≤ d := by omega
  have hd8 : 9 ≤ d := by omega
  refine hc_enter2 (own := RX21) [(0, .ref (E.2.1 23))] pl_X21 rfl hc_V0_st hc_G0_nd rfl (Nat.le_of_ble_eq_true rfl) (fun X hC hem => ?_)
  unfold fm_X21_step at h
  refine hr_aload_n hC dX21_step_0 rfl ?_
  refine hr_gA hC F23_70 rfl dX21_step_1 q2911 ?_
  refine hr_aload_n hC dX21_step_4 rfl ?_
  refine hr_gI hC F23_69 dX21_step_5 q2910 ?_
  refine hr_iconst (v := 1) hC dX21_step_8 rfl ?_
  refine hr_isub hC dX21_step_9 ?_
  obtain ⟨c1, h⟩ := hk_ok h
  refine hs_iald hC A23_70 c1 dX21_step_10 ?_
  refine hr_istore_n hC dX21_step_11 (by decide) ?_
  refine hr_aload_n hC dX21_step_12 rfl ?_
  refine hr_gA hC F23_71 rfl dX21_step_13 q2912 ?_
  refine hr_aload_n hC dX21_step_16 rfl ?_
  refine hr_gI hC F23_69 dX21_step_17 q2910 ?_
  refine hr_iconst (v := 1) hC dX21_step_20 rfl ?_
  refine hr_isub hC dX21_step_21 ?_
  obtain ⟨c2, h⟩ := hk_ok h
  refine hs_iald hC A23_71 c2 dX21_step_22 ?_
  refine hr_istore_n hC dX21_step_23 (by decide) ?_
  refine hr_aload_n hC dX21_step_24 rfl ?_
  refine hr_gA hC F23_18 rfl dX21_step_25 q2860 ?_
  refine hr_iload_n hC dX21_step_28 rfl ?_
  obtain ⟨c3, h⟩ := hk_ok h
  refine hs_bald hC A23_18 c3 dX21_step_29 ?_
  refine hr_bipush (v := 20) hC dX21_step_30 rfl ?_
  refine hr_icmp_lt (x := _) hC 42 dX21_step_32 (by decide) (fun c5 => ?_) (fun c5 => ?_)
  · rw [if_pos c5] at h
    refine hr_aload_n hC dX21_step_42 rfl ?_
    refine hr_gA hC F23_18 rfl dX21_step_43 q2860 ?_
    refine hr_iload_n hC dX21_step_46 rfl ?_
    obtain ⟨c6, h⟩ := hk_ok h
    refine hs_bald hC A23_18 c6 dX21_step_47 ?_
    obtain ⟨r7, e8, h⟩ := hx_bind h
    have J9 : hc_At hc_V0 E 4 X 314 [] [] r7 am [] := by
      obtain rfl := Option.some.inj h
      exact hr_vret hC dX21_step_314
    clear h
    have h := e8
    by_cases c114 : (gC σ 23 18 ((gC σ 23 70 ((((gI σ 23 69)) - 1))))).toInt8.toInt32 = 1
    · rw [if_pos c114] at h
      refine hr_tableIn hC 96 dX21_step_48 (by rw [c114] <;> decide) (by rw [c114] <;> decide) (by rw [c114] <;> rfl) (by decide) ?_
      refine hr_aload_n hC dX21_step_96 rfl ?_
      refine hr_aload_n hC dX21_step_97 rfl ?_
      refine hr_gA hC F23_14 rfl dX21_step_98 q2856 ?_
      refine hr_aload_n hC dX21_step_101 rfl ?_
      refine hr_gA hC F23_19 rfl dX21_step_102 q2861 ?_
      refine hr_iload_n hC dX21_step_105 rfl ?_
      obtain ⟨c15, h⟩ := hk_ok h
      refine hs_iald hC A23_19 c15 dX21_step_106 ?_
      obtain ⟨c16, h⟩ := hk_ok h
      refine hs_iald hC A23_14 c16 dX21_step_107 ?_
      obtain ⟨r17, e18, h⟩ := hx_bind h
      refine hs_callV0 hC 23 [_] _ dX21_step_108 q3651 q3653 qs297 q335 q3654 np_X21 rfl OB_23 pd_X21_done (Nat.le_of_ble_eq_true rfl) hd1 (okX21_done l E A (d - 1)  (by omega)  e18 am) rfl ?_
      refine hr_goto hC 314 dX21_step_111 (by decide) ?_
      obtain rfl := Option.some.inj h
      exact hr_sub _ rfl (J9)
    rw [if_neg c114] at h
    by_cases c115 : (gC σ 23 18 ((gC σ 23 70 ((((gI σ 23 69)) - 1))))).toInt8.toInt32 = 2
    · rw [if_pos c115] at h
      refine hr_tableIn hC 114 dX21_step_48 (by rw [c115] <;> decide) (by rw [c115] <;> decide) (by rw [c115] <;> rfl) (by decide) ?_
      refine hr_aload_n hC dX21_step_114 rfl ?_
      refine hr_aload_n hC dX21_step_115 rfl ?_
      refine hr_gA hC F23_22 rfl dX21_step_116 q2864 ?_
      refine hr_iload_n hC dX21_step_119 rfl ?_
      obtain ⟨c21, h⟩ := hk_ok h
      refine hs_iald hC A23_22 c21 dX21_step_120 ?_
      obtain ⟨r24, e25, h⟩ := hx_bind h
      have J26 : hc_At hc_V0 E 4 X 148 [] [.int r24, .ref (E.2.1 23)] σ am [] := by
        obtain ⟨r35, e36, h⟩ := hx_bind h
        refine hs_callV0 hC 23 [_] _ dX21_step_148 q3651 q3653 qs297 q335 q3654 np_X21 rfl OB_23 pd_X21_done (Nat.le_of_ble_eq_true rfl) hd1 (okX21_done l E A (d - 1)  (by omega)  e36 am) rfl ?_
        refine hr_goto hC 314 dX21_step_151 (by decide) ?_
        obtain rfl := Option.some.inj h
        exact hr_sub _ rfl (J9)
      clear h
      have h := e25
      refine hr_if_ge (x := _) hC 133 dX21_step_121 (by decide) (fun c23 => ?_) (fun c23 => ?_)
      · rw [if_pos c23] at h
        refine hr_aload_n hC dX21_step_133 rfl ?_
        refine hr_gA hC F23_66 rfl dX21_step_134 q2907 ?_
        refine hr_aload_n hC dX21_step_137 rfl ?_
        refine hr_aload_n hC dX21_step_138 rfl ?_
        refine hr_gA hC F23_22 rfl dX21_step_139 q2864 ?_
        refine hr_iload_n hC dX21_step_142 rfl ?_
        obtain ⟨c28, h⟩ := hk_ok h
        refine hs_iald hC A23_22 c28 dX21_step_143 ?_
        obtain ⟨r29, e30, h⟩ := hx_bind h
        refine hs_callV0 hC 23 [_] _ dX21_step_144 q3559 q3561 qs274 q335 q3562 np_X21 rfl OB_23 pd_X21_cellOf (Nat.le_of_ble_eq_true rfl) hd1 (okX21_cellOf l E A (d - 1)  (by omega)  e30 am) rfl ?_
        obtain ⟨c33, h⟩ := hk_ok h
        refine hs_iald hC A23_66 c33 dX21_step_147 ?_
        obtain rfl := Option.some.inj h
        exact hr_sub _ rfl (J26)
      · rw [if_neg c23] at h
        refine hr_aload_n hC dX21_step_124 rfl ?_
        refine hr_gA hC F23_23 rfl dX21_step_125 q2865 ?_
        refine hr_iload_n hC dX21_step_128 rfl ?_
        obtain ⟨c34, h⟩ := hk_ok h
        refine hs_iald hC A23_23 c34 dX21_step_129 ?_
        refine hr_goto hC 148 dX21_step_130 (by decide) ?_
        obtain rfl := Option.some.inj h
        exact hr_sub _ rfl (J26)
    rw [if_neg c115] at h
    by_cases c116 : (gC σ 23 18 ((gC σ 23 70 ((((gI σ 23 69)) - 1))))).toInt8.toInt32 = 3
    · rw [if_pos c116] at h
      refine hr_tableIn hC 154 dX21_step_48 (by rw [c116] <;> decide) (by rw [c116] <;> decide) (by rw [c116] <;> rfl) (by decide) ?_
      refine hr_aload_n hC dX21_step_154 rfl ?_
      refine hr_iload_n hC dX21_step_155 rfl ?_
      refine hr_iload_n hC dX21_step_156 rfl ?_
      obtain ⟨r39, e40, h⟩ := hx_bind h
      refine hs_callV0 hC 23 [_, _] _ dX21_step_157 q3655 q3657 qs298 q335 q3658 np_X21 rfl OB_23 pd_X21_doCall (Nat.le_of_ble_eq_true rfl) hd1 (okX21_doCall l E A (d - 1) n (by omega)  e40 am) rfl ?_
      refine hr_goto hC 314 dX21_step_160 (by decide) ?_
      obtain rfl := Option.some.inj h
      exact hr_sub _ rfl (J9)
    rw [if_neg c116] at h
    by_cases c117 : (gC σ 23 18 ((gC σ 23 70 ((((gI σ 23 69)) - 1))))).toInt8.toInt32 = 4
    · rw [if_pos c117] at h
      refine hr_tableIn hC 163 dX21_step_48 (by rw [c117] <;> decide) (by rw [c117] <;> decide) (by rw [c117] <;> rfl) (by decide) ?_
      refine hr_iload_n hC dX21_step_163 rfl ?_
      refine hr_if_ne (x := _) hC 185 dX21_step_164 (by decide) (fun c44 => ?_) (fun c44 => ?_)
      · rw [if_neg c44] at h
        refine hr_aload_n hC dX21_step_185 rfl ?_
        refine hr_aload_n hC dX21_step_186 rfl ?_
        refine hr_gA hC F23_22 rfl dX21_step_187 q2864 ?_
        refine hr_iload_n hC dX21_step_190 rfl ?_
        obtain ⟨c45, h⟩ := hk_ok h
        refine hs_iald hC A23_22 c45 dX21_step_191 ?_
        refine hr_aload_n hC dX21_step_192 rfl ?_
        obtain ⟨r46, e47, h⟩ := hx_bind h
        refine hs_callV0 hC 23 [] _ dX21_step_193 q3615 q3617 qs288 q335 q3618 np_X21 rfl OB_23 pd_X21_take_2 (Nat.le_of_ble_eq_true rfl) hd1 (okX21_take_2 l E A (d - 1)  (by omega)  e47 am) rfl ?_
        obtain ⟨r50, e51, h⟩ := hx_bind h
        refine hs_callV0 hC 23 [_, _] _ dX21_step_196 q3687 q3689 qs306 q335 q3690 np_X21 rfl OB_23 pd_X21_elementAt (Nat.le_of_ble_eq_true rfl) hd1 (okX21_elementAt l E A (d - 1)  (by omega)  e51 am) rfl ?_
        refine hr_istore_n hC dX21_step_199 (by decide) ?_
        refine hr_iload_n hC dX21_step_200 rfl ?_
        obtain ⟨r56, e57, h⟩ := hx_bind h
        have J58 : hc_At hc_V0 E 4 X 214 [] [] r56 am [] := by
          refine hr_goto hC 314 dX21_step_214 (by decide) ?_
          obtain rfl := Option.some.inj h
          exact hr_sub _ rfl (J9)
        clear h
        have h := e57
        refine hr_if_lt (x := _) hC 214 dX21_step_201 (by decide) (fun c55 => ?_) (fun c55 => ?_)
        · rw [if_pos c55] at h
          obtain rfl := Option.some.inj h
          exact hr_sub _ rfl (J58)
        · rw [if_neg c55] at h
          refine hr_aload_n hC dX21_step_204 rfl ?_
          refine hr_aload_n hC dX21_step_205 rfl ?_
          refine hr_gA hC F23_66 rfl dX21_step_206 q2907 ?_
          refine hr_iload_n hC dX21_step_209 rfl ?_
          obtain ⟨c60, h⟩ := hk_ok h
          refine hs_iald hC A23_66 c60 dX21_step_210 ?_
          obtain ⟨r61, e62, h⟩ := hx_bind h
          refine hs_callV0 hC 23 [_] _ dX21_step_211 q3651 q3653 qs297 q335 q3654 np_X21 rfl OB_23 pd_X21_done (Nat.le_of_ble_eq_true rfl) hd1 (okX21_done l E A (d - 1)  (by omega)  e62 am) rfl ?_
          obtain rfl := Option.some.inj h
          exact hr_sub _ rfl (J58)
      · rw [if_pos c44] at h
        refine hr_aload_n hC dX21_step_167 rfl ?_
        refine hr_iconst (v := 1) hC dX21_step_168 rfl ?_
        obtain ⟨r65, e66, h⟩ := hx_bind h
        refine hs_callV0 hC 23 [_] _ dX21_step_169 q3611 q3613 qs287 q335 q3614 np_X21 rfl OB_23 pd_X21_state (Nat.le_of_ble_eq_true rfl) hd1 (okX21_state l E A (d - 1)  (by omega)  e66 am) rfl ?_
        refine hr_aload_n hC dX21_step_172 rfl ?_
        refine hr_aload_n hC dX21_step_173 rfl ?_
        refine hr_gA hC F23_21 rfl dX21_step_174 q2863 ?_
        refine hr_iload_n hC dX21_step_177 rfl ?_
        obtain ⟨c69, h⟩ := hk_ok h
        refine hs_iald hC A23_21 c69 dX21_step_178 ?_
        obtain ⟨r70, e71, h⟩ := hx_bind h
        refine hs_callV0 hC 23 [_] _ dX21_step_179 q3595 q3597 qs283 q335 q3598 np_X21 rfl OB_23 pd_X21_push (Nat.le_of_ble_eq_true rfl) hd1 (okX21_push l E A (d - 1)  (by omega)  e71 am) rfl ?_
        refine hr_goto hC 314 dX21_step_182 (by decide) ?_
        obtain rfl := Option.some.inj h
        exact hr_sub _ rfl (J9)
    rw [if_neg c117] at h
    by_cases c118 : (gC σ 23 18 ((gC σ 23 70 ((((gI σ 23 69)) - 1))))).toInt8.toInt32 = 5
    · rw [if_pos c118] at h
      refine hr_tableIn hC 217 dX21_step_48 (by rw [c118] <;> decide) (by rw [c118] <;> decide) (by rw [c118] <;> rfl) (by decide) ?_
      refine hr_aload_n hC dX21_step_217 rfl ?_
      refine hr_iload_n hC dX21_step_218 rfl ?_
      refine hr_iload_n hC dX21_step_219 rfl ?_
      obtain ⟨r74, e75, h⟩ := hx_bind h
      refine hs_callV0 hC 23 [_, _] _ dX21_step_220 q3691 q3693 qs307 q335 q3694 np_X21 rfl OB_23 pd_X21_doUnary (Nat.le_of_ble_eq_true rfl) hd1 (okX21_doUnary l E A (d - 1)  (by omega)  e75 am) rfl ?_
      refine hr_goto hC 314 dX21_step_223 (by decide) ?_
      obtain rfl := Option.some.inj h
      exact hr_sub _ rfl (J9)
    rw [if_neg c118] at h
    by_cases c119 : (gC σ 23 18 ((gC σ 23 70 ((((gI σ 23 69)) - 1))))).toInt8.toInt32 = 6
    · rw [if_pos c119] at h
      refine hr_tableIn hC 226 dX21_step_48 (by rw [c119] <;> decide) (by rw [c119] <;> decide) (by rw [c119] <;> rfl) (by decide) ?_
      refine hr_aload_n hC dX21_step_226 rfl ?_
      refine hr_iload_n hC dX21_step_227 rfl ?_
      refine hr_iload_n hC dX21_step_228 rfl ?_
      refine hr_iconst (v := 0) hC dX21_step_229 rfl ?_
      obtain ⟨r78, e79, h⟩ := hx_bind h
      refine hs_callV0 hC 23 [_, _, _] _ dX21_step_230 q3695 q3697 qs308 q335 q3698 np_X21 rfl OB_23 pd_X21_doStep (Nat.le_of_ble_eq_true rfl) hd1 (okX21_doStep l E A (d - 1)  (by omega)  e79 am) rfl ?_
      refine hr_goto hC 314 dX21_step_233 (by decide) ?_
      obtain rfl := Option.some.inj h
      exact hr_sub _ rfl (J9)
    rw [if_neg c119] at h
    by_cases c120 : (gC σ 23 18 ((gC σ 23 70 ((((gI σ 23 69)) - 1))))).toInt8.toInt32 = 7
    · rw [if_pos c120] at h
      refine hr_tableIn hC 236 dX21_step_48 (by rw [c120] <;> decide) (by rw [c120] <;> decide) (by rw [c120] <;> rfl) (by decide) ?_
      refine hr_aload_n hC dX21_step_236 rfl ?_
      refine hr_iload_n hC dX21_step_237 rfl ?_
      refine hr_iload_n hC dX21_step_238 rfl ?_
      obtain ⟨r82, e83, h⟩ := hx_bind h
      refine hs_callV0 hC 23 [_, _] _ dX21_step_239 q3703 q3705 qs310 q335 q3706 np_X21 rfl OB_23 pd_X21_doChain (Nat.le_of_ble_eq_true rfl) hd1 (okX21_doChain l E A (d - 1)  (by omega)  e83 am) rfl ?_
      refine hr_goto hC 314 dX21_step_242 (by decide) ?_
      obtain rfl := Option.some.inj h
      exact hr_sub _ rfl (J9)
    rw [if_neg c120] at h
    by_cases c121 : (gC σ 23 18 ((gC σ 23 70 ((((gI σ 23 69)) - 1))))).toInt8.toInt32 = 8
    · rw [if_pos c121] at h
      refine hr_tableIn hC 245 dX21_step_48 (by rw [c121] <;> decide) (by rw [c121] <;> decide) (by rw [c121] <;> rfl) (by decide) ?_
      refine hr_iload_n hC dX21_step_245 rfl ?_
      refine hr_if_ne (x := _) hC 267 dX21_step_246 (by decide) (fun c87 => ?_) (fun c87 => ?_)
      · rw [if_neg c87] at h
        refine hr_aload_n hC dX21_step_267 rfl ?_
        obtain ⟨r88, e89, h⟩ := hx_bind h
        refine hs_callV0 hC 23 [] _ dX21_step_268 q3615 q3617 qs288 q335 q3618 np_X21 rfl OB_23 pd_X21_take_2 (Nat.le_of_ble_eq_true rfl) hd1 (okX21_take_2 l E A (d - 1)  (by omega)  e89 am) rfl ?_
        obtain ⟨r94, e95, h⟩ := hx_bind h
        have J96 : hc_At hc_V0 E 4 X 289 [(0, .ref (E.2.1 23))] [.int r94] r88.2 am [] := by
          refine hr_istore_n hC dX21_step_289 (by decide) ?_
          refine hr_aload_n hC dX21_step_290 rfl ?_
          refine hr_dup hC dX21_step_291 rfl ?_
          refine hr_gI hC F23_69 dX21_step_292 q2910 ?_
          refine hr_iconst (v := 1) hC dX21_step_295 rfl ?_
          refine hr_isub hC dX21_step_296 ?_
          obtain ⟨σ100, hσ100, h⟩ := hl_ok h
          refine hr_pI hC F23_69 PX21_69 dX21_step_297 q2910 ?_
          rw [← hσ100]
          refine hr_aload_n hC dX21_step_300 rfl ?_
          refine hr_iload_n hC dX21_step_301 rfl ?_
          obtain ⟨r101, e102, h⟩ := hx_bind h
          refine hs_callV0 hC 23 [_] _ dX21_step_302 q3595 q3597 qs283 q335 q3598 np_X21 rfl OB_23 pd_X21_push (Nat.le_of_ble_eq_true rfl) hd1 (okX21_push l E A (d - 1)  (by omega)  e102 am) rfl ?_
          refine hr_goto hC 314 dX21_step_305 (by decide) ?_
          obtain rfl := Option.some.inj h
          exact hr_sub _ rfl (J9)
        clear h
        have h := e95
        refine hr_if_eq (x := _) hC 283 dX21_step_271 (by decide) (fun c93 => ?_) (fun c93 => ?_)
        · rw [if_pos c93] at h
          refine hr_aload_n hC dX21_step_283 rfl ?_
          refine hr_gA hC F23_23 rfl dX21_step_284 q2865 ?_
          refine hr_iload_n hC dX21_step_287 rfl ?_
          obtain ⟨c98, h⟩ := hk_ok h
          refine hs_iald hC A23_23 c98 dX21_step_288 ?_
          obtain rfl := Option.some.inj h
          exact hr_sub _ rfl (J96)
        · rw [if_neg c93] at h
          refine hr_aload_n hC dX21_step_274 rfl ?_
          refine hr_gA hC F23_22 rfl dX21_step_275 q2864 ?_
          refine hr_iload_n hC dX21_step_278 rfl ?_
          obtain ⟨c99, h⟩ := hk_ok h
          refine hs_iald hC A23_22 c99 dX21_step_279 ?_
          refine hr_goto hC 289 dX21_step_280 (by decide) ?_
          obtain rfl := Option.some.inj h
          exact hr_sub _ rfl (J96)
      · rw [if_pos c87] at h
        refine hr_aload_n hC dX21_step_249 rfl ?_
        refine hr_iconst (v := 1) hC dX21_step_250 rfl ?_
        obtain ⟨r105, e106, h⟩ := hx_bind h
        refine hs_callV0 hC 23 [_] _ dX21_step_251 q3611 q3613 qs287 q335 q3614 np_X21 rfl OB_23 pd_X21_state (Nat.le_of_ble_eq_true rfl) hd1 (okX21_state l E A (d - 1)  (by omega)  e106 am) rfl ?_
        refine hr_aload_n hC dX21_step_254 rfl ?_
        refine hr_aload_n hC dX21_step_255 rfl ?_
        refine hr_gA hC F23_21 rfl dX21_step_256 q2863 ?_
        refine hr_iload_n hC dX21_step_259 rfl ?_
        obtain ⟨c109, h⟩ := hk_ok h
        refine hs_iald hC A23_21 c109 dX21_step_260 ?_
        obtain ⟨r110, e111, h⟩ := hx_bind h
        refine hs_callV0 hC 23 [_] _ dX21_step_261 q3595 q3597 qs283 q335 q3598 np_X21 rfl OB_23 pd_X21_push (Nat.le_of_ble_eq_true rfl) hd1 (okX21_push l E A (d - 1)  (by omega)  e111 am) rfl ?_
        refine hr_goto hC 314 dX21_step_264 (by decide) ?_
        obtain rfl := Option.some.inj h
        exact hr_sub _ rfl (J9)
    rw [if_neg c121] at h
    refine hr_tableD hC 308 dX21_step_48 (ks := [1, 2, 3, 4, 5, 6, 7, 8]) (hc_l1 (hc_ne c114 rfl) (hc_l1 (hc_ne c115 rfl) (hc_l1 (hc_ne c116 rfl) (hc_l1 (hc_ne c117 rfl) (hc_l1 (hc_ne c118 rfl) (hc_l1 (hc_ne c119 rfl) (hc_l1 (hc_ne c120 rfl) (hc_l1 (hc_ne c121 rfl) hc_l0)))))))) (by decide) (by decide) (by decide) ?_
    refine hr_aload_n hC dX21_step_308 rfl ?_
    refine hr_iload_n hC dX21_step_309 rfl ?_
    refine hr_iload_n hC dX21_step_310 rfl ?_
    obtain ⟨r11, e12, h⟩ := hx_bind h
    refine hs_callV0 hC 23 [_, _] _ dX21_step_311 q3707 q3709 qs311 q335 q3710 np_X21 rfl OB_23 pd_X21_doAssign (Nat.le_of_ble_eq_true rfl) hd1 (okX21_doAssign l E A (d - 1)  (by omega)  e12 am) rfl ?_
    obtain rfl := Option.some.inj h
    exact hr_sub _ rfl (J9)
  · rw [if_neg c5] at h
    refine hr_aload_n hC dX21_step_35 rfl ?_
    refine hr_iload_n hC dX21_step_36 rfl ?_
    refine hr_iload_n hC dX21_step_37 rfl ?_
    obtain ⟨r122, e123, h⟩ := hx_bind h
    refine hs_callV0 hC 23 [_, _] _ dX21_step_38 q3603 q3605 qs285 q335 q3606 np_X21 rfl OB_23 pd_X21_doStatement (Nat.le_of_ble_eq_true rfl) hd1 (okX21_doStatement l E A (d - 1) n (by omega)  e123 am) rfl ?_
    obtain rfl := Option.some.inj h
    exact hr_vret hC dX21_step_41
def lp_X21_run_164 (n : Nat) : Nat → hc_St → Option (hc_St)
  | 0, _ => none
  | m + 1, σ => if (gI σ 23 77) = (-1) then (if (gI σ 23 69) ≤ 0 then (some (σ)) else (Option.bind (fm_X21_step n σ) fun r41 => lp_X21_run_164 n m  r41)) else (some (σ))
/-- HomeCompilerModel.run(III)I -/
def fm_X21_run (n : Nat) (x1 : Int32) (x2 : Int32) (x3 : Int32) (σ : hc_St) : Option (Int32 × hc_St) := hl (α := Int32) ((if x2 < 0 then 1 else (if 2000 < x2 then 1 else (if x3 < 0 then 1 else (if x3 ≤ 1024 then 0 else 1))))) fun v3 => hl (α := Int32) ((if (gI σ 23 65) = 0 then 1 else (if v3 = 0 then (if (x2 + 10) ≤ (gI σ 23 86) then 0 else 3) else 2))) fun v6 => hl (pI σ 23 4 v6) fun σ7 => if (gI σ7 23 4) ≤ 0 then (hl (pI σ7 23 86 ((((((gI σ7 23 86)) - x2)) - 10))) fun σ10 => Option.bind (fm_X21_setText n σ10) fun r11 => hl (pI r11 23 81 0) fun σ15 => hl (pI σ15 23 78 0) fun σ16 => hl (pI σ16 23 79 x2) fun σ17 => hl (pI σ17 23 80 x3) fun σ18 => hl (pI σ18 23 69 0) fun σ19 => hl (pI σ19 23 72 0) fun σ20 => hl (pI σ20 23 74 0) fun σ21 => hl (pI σ21 23 67 ((gI σ21 23 60))) fun σ22 => hl (pI σ22 23 68 ((gI σ22 23 60))) fun σ23 => hl (pI σ23 23 77 ((-1))) fun σ24 => Option.bind (fm_X21_give x1 σ24) fun r25 => Option.bind (fm_X21_mainFunction n r25) fun r29 => Option.bind (fm_X21_enter n r29 r25) fun r33 => Option.bind (lp_X21_run_164 n n  r33) fun r45 => Option.bind (α := hc_St) (if (gI r45 23 77) = (-1) then (Option.bind (fm_X21_take_2  r45) fun r56 => hl (pI r56.2 23 78 r56.1) fun σ60 => hl (pI σ60 23 77 0) fun σ61 => some (σ61)) else (some (r45))) fun r52 => some ((gI r52 23 77), r52)) else (some (0, σ7))
set_option maxRecDepth 20000 in
set_option maxHeartbeats 4000000 in
theorem ll_X21_run_164 {l : Launch} {E : hc_E} {A : Nat → Prop} {am : Nat → Nat → Nat} {d : Nat} {X : hc_X} (n : Nat) (hD : 13 ≤ d) (hem : X.2.2.2.2.2.2.2.2.2.1.exceptionTable.isEmpty = true) {oc : hc_Oc} {σe : hc_St} (hC : hc_C hc_V0 E cX21_run 5 RX21 (some .int) d oc σe (l, A, am, []) X) : ∀ (m : Nat) (σ : hc_St)  (rl : hc_St) (am1 : Nat → Nat → Nat), lp_X21_run_164 n m  σ = some rl → (hc_At hc_V0 E 5 X 186 [(0, .ref (E.2.1 23))] [] rl am1 []) → hc_At hc_V0 E 5 X 164 [(0, .ref (E.2.1 23))] [] σ am1 [] := by
  have hd1 : 1 ≤ d := by omega
  have hd8 : 9 ≤ d := by omega
  have hd12 : 12 ≤ d := by omega
  intro m
  induction m with
  | zero =>
    intro σ  rl am1 h
    cases h
  | succ m ih =>
    intro σ  rl am1 h JX
    rw [lp_X21_run_164] at h
    refine hr_aload_n hC dX21_run_164 rfl ?_
    refine hr_gI hC F23_77 dX21_run_165 q2918 ?_
    refine hr_iconst (v := (-1)) hC dX21_run_168 rfl ?_
    refine hr_icmp_ne (x := _) hC 186 dX21_run_169 (by decide) (fun c38 => ?_) (fun c38 => ?_)
    · rw [if_neg c38] at h
      obtain rfl := Option.some.inj h
      exact hr_sub _ rfl (JX)
    · rw [if_pos c38] at h
      refine hr_aload_n hC dX21_run_172 rfl ?_
      refine hr_gI hC F23_69 dX21_run_173 q2910 ?_
      refine hr_if_le (x := _) hC 186 dX21_run_176 (by decide) (fun c40 => ?_) (fun c40 => ?_)
      · rw [if_pos c40] at h
        obtain rfl := Option.some.inj h
        exact hr_sub _ rfl (JX)
      · rw [if_neg c40] at h
        refine hr_aload_n hC dX21_run_179 rfl ?_
        obtain ⟨r41, e42, h⟩ := hx_bind h
        refine hs_callV0 hC 23 [] _ dX21_run_180 q3599 q3601 qs284 q335 q3602 np_X21 rfl OB_23 pd_X21_step (Nat.le_of_ble_eq_true rfl) hd1 (okX21_step l E A (d - 1) n (by omega)  e42 am1) rfl ?_
        refine hr_goto hC 164 dX21_run_183 (by decide) ?_
        exact hr_sub _ rfl (ih _  _ am1 h JX)
set_option maxRecDepth 20000 in
set_option maxHeartbeats 4000000 in
theorem okX21_run (l : Launch) (E : hc_E) (A : Nat → Prop) (d : Nat) (n : Nat) (hD : 13 ≤ d) {x1 : Int32} {x2 : Int32} {x3 : Int32} {σ : hc_St} {r : (Int32 × hc_St)} (h : fm_X21_run n x1 x2 x3 σ = some r) (am : Nat → Nat → Nat) : hc_M l hc_V0 yX21_run (ws_ yX21_run cX21_run 5 (some .int)) d E A [.ref (E.2.1 23), .int x1, .int x2, .int x3] am [] σ (.inl (some (.int r.1))) r.2 := by
  have hd1 : 1 ≤ d := by omega
  have hd8 : 9 ≤ d := by omega
  have hd12 : 12 ≤ d := by omega
  refine hc_enter2 (own := RX21) [(0, .ref (E.2.1 23)), (1, .int x1), (2, .int x2), (3, .int x3)] pl_X21 rfl hc_V0_st hc_G0_nd rfl (Nat.le_of_ble_eq_true rfl) (fun X hC hem => ?_)
  unfold fm_X21_run at h
  refine hr_iload_n hC dX21_run_0 rfl ?_
  obtain ⟨v3, hv3, h⟩ := hl_ok h
  have J67 : ∀ w68 : Int32, (if x2 < 0 then 1 else (if 2000 < x2 then 1 else (if x3 < 0 then 1 else (if x3 ≤ 1024 then 0 else 1)))) = w68 → hc_At hc_V0 E 5 X 27 [(0, .ref (E.2.1 23)), (1, .int x1), (2, .int x2), (3, .int x3)] [.int w68] σ am [] := by
    intro w68 hw68
    obtain rfl := hv3.trans hw68
    refine hr_istore hC dX21_run_27 (by decide) ?_
    refine hr_aload_n hC dX21_run_29 rfl ?_
    refine hr_aload_n hC dX21_run_30 rfl ?_
    refine hr_gI hC F23_65 dX21_run_31 q2906 ?_
    obtain ⟨v6, hv6, h⟩ := hl_ok h
    have J62 : ∀ w63 : Int32, (if (gI σ 23 65) = 0 then 1 else (if v3 = 0 then (if (x2 + 10) ≤ (gI σ 23 86) then 0 else 3) else 2)) = w63 → hc_At hc_V0 E 5 X 66 [(0, .ref (E.2.1 23)), (1, .int x1), (2, .int x2), (3, .int x3)] [.int w63, .ref (E.2.1 23)] σ am [] := by
      intro w63 hw63
      obtain rfl := hv6.trans hw63
      obtain ⟨σ7, hσ7, h⟩ := hl_ok h
      refine hr_pI hC F23_4 PX21_4 dX21_run_66 q2846 ?_
      rw [← hσ7]
      refine hr_aload_n hC dX21_run_69 rfl ?_
      refine hr_gI hC F23_4 dX21_run_70 q2846 ?_
      refine hr_if_le (x := _) hC 78 dX21_run_73 (by decide) (fun c9 => ?_) (fun c9 => ?_)
      · rw [if_pos c9] at h
        refine hr_aload_n hC dX21_run_78 rfl ?_
        refine hr_aload_n hC dX21_run_79 rfl ?_
        refine hr_gI hC F23_86 dX21_run_80 q2927 ?_
        refine hr_iload_n hC dX21_run_83 rfl ?_
        refine hr_isub hC dX21_run_84 ?_
        refine hr_bipush (v := 10) hC dX21_run_85 rfl ?_
        refine hr_isub hC dX21_run_87 ?_
        obtain ⟨σ10, hσ10, h⟩ := hl_ok h
        refine hr_pI hC F23_86 PX21_86 dX21_run_88 q2927 ?_
        rw [← hσ10]
        refine hr_aload_n hC dX21_run_91 rfl ?_
        obtain ⟨r11, e12, h⟩ := hx_bind h
        refine hs_callV0 hC 23 [] _ dX21_run_92 q3551 q3553 qs272 q335 q3554 np_X21 rfl OB_23 pd_X21_setText (Nat.le_of_ble_eq_true rfl) hd1 (okX21_setText l E A (d - 1) n (by omega)  e12 am) rfl ?_
        refine hr_aload_n hC dX21_run_95 rfl ?_
        refine hr_iconst (v := 0) hC dX21_run_96 rfl ?_
        obtain ⟨σ15, hσ15, h⟩ := hl_ok h
        refine hr_pI hC F23_81 PX21_81 dX21_run_97 q2922 ?_
        rw [← hσ15]
        refine hr_aload_n hC dX21_run_100 rfl ?_
        refine hr_iconst (v := 0) hC dX21_run_101 rfl ?_
        obtain ⟨σ16, hσ16, h⟩ := hl_ok h
        refine hr_pI hC F23_78 PX21_78 dX21_run_102 q2919 ?_
        rw [← hσ16]
        refine hr_aload_n hC dX21_run_105 rfl ?_
        refine hr_iload_n hC dX21_run_106 rfl ?_
        obtain ⟨σ17, hσ17, h⟩ := hl_ok h
        refine hr_pI hC F23_79 PX21_79 dX21_run_107 q2920 ?_
        rw [← hσ17]
        refine hr_aload_n hC dX21_run_110 rfl ?_
        refine hr_iload_n hC dX21_run_111 rfl ?_
        obtain ⟨σ18, hσ18, h⟩ := hl_ok h
        refine hr_pI hC F23_80 PX21_80 dX21_run_112 q2921 ?_
        rw [← hσ18]
        refine hr_aload_n hC dX21_run_115 rfl ?_
        refine hr_iconst (v := 0) hC dX21_run_116 rfl ?_
        obtain ⟨σ19, hσ19, h⟩ := hl_ok h
        refine hr_pI hC F23_69 PX21_69 dX21_run_117 q2910 ?_
        rw [← hσ19]
        refine hr_aload_n hC dX21_run_120 rfl ?_
        refine hr_iconst (v := 0) hC dX21_run_121 rfl ?_
        obtain ⟨σ20, hσ20, h⟩ := hl_ok h
        refine hr_pI hC F23_72 PX21_72 dX21_run_122 q2913 ?_
        rw [← hσ20]
        refine hr_aload_n hC dX21_run_125 rfl ?_
        refine hr_iconst (v := 0) hC dX21_run_126 rfl ?_
        obtain ⟨σ21, hσ21, h⟩ := hl_ok h
        refine hr_pI hC F23_74 PX21_74 dX21_run_127 q2915 ?_
        rw [← hσ21]
        refine hr_aload_n hC dX21_run_130 rfl ?_
        refine hr_aload_n hC dX21_run_131 rfl ?_
        refine hr_gI hC F23_60 dX21_run_132 q2901 ?_
        obtain ⟨σ22, hσ22, h⟩ := hl_ok h
        refine hr_pI hC F23_67 PX21_67 dX21_run_135 q2908 ?_
        rw [← hσ22]
        refine hr_aload_n hC dX21_run_138 rfl ?_
        refine hr_aload_n hC dX21_run_139 rfl ?_
        refine hr_gI hC F23_60 dX21_run_140 q2901 ?_
        obtain ⟨σ23, hσ23, h⟩ := hl_ok h
        refine hr_pI hC F23_68 PX21_68 dX21_run_143 q2909 ?_
        rw [← hσ23]
        refine hr_aload_n hC dX21_run_146 rfl ?_
        refine hr_iconst (v := (-1)) hC dX21_run_147 rfl ?_
        obtain ⟨σ24, hσ24, h⟩ := hl_ok h
        refine hr_pI hC F23_77 PX21_77 dX21_run_148 q2918 ?_
        rw [← hσ24]
        refine hr_aload_n hC dX21_run_151 rfl ?_
        refine hr_iload_n hC dX21_run_152 rfl ?_
        obtain ⟨r25, e26, h⟩ := hx_bind h
        refine hs_callV0 hC 23 [_] _ dX21_run_153 q3571 q3573 qs277 q335 q3574 np_X21 rfl OB_23 pd_X21_give (Nat.le_of_ble_eq_true rfl) hd1 (okX21_give l E A (d - 1)  (by omega)  e26 am) rfl ?_
        refine hr_aload_n hC dX21_run_156 rfl ?_
        refine hr_aload_n hC dX21_run_157 rfl ?_
        obtain ⟨r29, e30, h⟩ := hx_bind h
        refine hs_callV0 hC 23 [] _ dX21_run_158 q3575 q3577 qs278 q335 q3578 np_X21 rfl OB_23 pd_X21_mainFunction (Nat.le_of_ble_eq_true rfl) hd1 (okX21_mainFunction l E A (d - 1) n (by omega)  e30 am) rfl ?_
        obtain ⟨r33, e34, h⟩ := hx_bind h
        refine hs_callV0 hC 23 [_] _ dX21_run_161 q3579 q3581 qs279 q335 q3582 np_X21 rfl OB_23 pd_X21_enter (Nat.le_of_ble_eq_true rfl) hd1 (okX21_enter l E A (d - 1) n (by omega)  e34 am) rfl ?_
        obtain ⟨r45, e46, h⟩ := hx_bind h
        refine hr_sub _ rfl (ll_X21_run_164 n hD hem hC n _  _ am e46 ?_)
        refine hr_aload_n hC dX21_run_186 rfl ?_
        refine hr_gI hC F23_77 dX21_run_187 q2918 ?_
        refine hr_iconst (v := (-1)) hC dX21_run_190 rfl ?_
        obtain ⟨r52, e53, h⟩ := hx_bind h
        have J54 : hc_At hc_V0 E 5 X 207 [(0, .ref (E.2.1 23))] [] r52 am [] := by
          refine hr_aload_n hC dX21_run_207 rfl ?_
          refine hr_gI hC F23_77 dX21_run_208 q2918 ?_
          obtain rfl := Option.some.inj h
          exact hr_iret hC dX21_run_211
        clear h
        have h := e53
        refine hr_icmp_ne (x := _) hC 207 dX21_run_191 (by decide) (fun c51 => ?_) (fun c51 => ?_)
        · rw [if_neg c51] at h
          obtain rfl := Option.some.inj h
          exact hr_sub _ rfl (J54)
        · rw [if_pos c51] at h
          refine hr_aload_n hC dX21_run_194 rfl ?_
          refine hr_aload_n hC dX21_run_195 rfl ?_
          obtain ⟨r56, e57, h⟩ := hx_bind h
          refine hs_callV0 hC 23 [] _ dX21_run_196 q3615 q3617 qs288 q335 q3618 np_X21 rfl OB_23 pd_X21_take_2 (Nat.le_of_ble_eq_true rfl) hd1 (okX21_take_2 l E A (d - 1)  (by omega)  e57 am) rfl ?_
          obtain ⟨σ60, hσ60, h⟩ := hl_ok h
          refine hr_pI hC F23_78 PX21_78 dX21_run_199 q2919 ?_
          rw [← hσ60]
          refine hr_aload_n hC dX21_run_202 rfl ?_
          refine hr_iconst (v := 0) hC dX21_run_203 rfl ?_
          obtain ⟨σ61, hσ61, h⟩ := hl_ok h
          refine hr_pI hC F23_77 PX21_77 dX21_run_204 q2918 ?_
          rw [← hσ61]
          obtain rfl := Option.some.inj h
          exact hr_sub _ rfl (J54)
      · rw [if_neg c9] at h
        refine hr_iconst (v := 0) hC dX21_run_76 rfl ?_
        obtain rfl := Option.some.inj h
        exact hr_iret hC dX21_run_77
    refine hr_if_ne (x := _) hC 41 dX21_run_34 (by decide) (fun c64 => ?_) (fun c64 => ?_)
    · refine hr_iload hC dX21_run_41 rfl ?_
      refine hr_if_eq (x := _) hC 50 dX21_run_43 (by decide) (fun c65 => ?_) (fun c65 => ?_)
      · refine hr_aload_n hC dX21_run_50 rfl ?_
        refine hr_gI hC F23_86 dX21_run_51 q2927 ?_
        refine hr_iload_n hC dX21_run_54 rfl ?_
        refine hr_bipush (v := 10) hC dX21_run_55 rfl ?_
        refine hr_iadd hC dX21_run_57 ?_
        refine hr_icmp_ge (x := _) hC 65 dX21_run_58 (by decide) (fun c66 => ?_) (fun c66 => ?_)
        · refine hr_iconst (v := 0) hC dX21_run_65 rfl ?_
          exact hr_sub _ rfl (J62 _ (by first | (rw [if_neg c64, if_pos c65, if_pos c66]; done) | (simp only [if_neg c64, if_pos c65, if_pos c66]; done) | rfl))
        · refine hr_iconst (v := 3) hC dX21_run_61 rfl ?_
          refine hr_goto hC 66 dX21_run_62 (by decide) ?_
          exact hr_sub _ rfl (J62 _ (by first | (rw [if_neg c64, if_pos c65, if_neg c66]; done) | (simp only [if_neg c64, if_pos c65, if_neg c66]; done) | rfl))
      · refine hr_iconst (v := 2) hC dX21_run_46 rfl ?_
        refine hr_goto hC 66 dX21_run_47 (by decide) ?_
        exact hr_sub _ rfl (J62 _ (by first | (rw [if_neg c64, if_neg c65]; done) | (simp only [if_neg c64, if_neg c65]; done) | rfl))
    · refine hr_iconst (v := 1) hC dX21_run_37 rfl ?_
      refine hr_goto hC 66 dX21_run_38 (by decide) ?_
      exact hr_sub _ rfl (J62 _ (by first | (rw [if_pos c64]; done) | (simp only [if_pos c64]; done) | rfl))
  refine hr_if_lt (x := _) hC 22 dX21_run_1 (by decide) (fun c69 => ?_) (fun c69 => ?_)
  · refine hr_iconst (v := 1) hC dX21_run_22 rfl ?_
    refine hr_goto hC 27 dX21_run_23 (by decide) ?_
    exact hr_sub _ rfl (J67 _ (by first | (rw [if_pos c69]; done) | (simp only [if_pos c69]; done) | rfl))
  · refine hr_iload_n hC dX21_run_4 rfl ?_
    refine hr_sipush (v := 2000) hC dX21_run_5 rfl ?_
    refine hr_icmp_gt (x := _) hC 22 dX21_run_8 (by decide) (fun c70 => ?_) (fun c70 => ?_)
    · refine hr_iconst (v := 1) hC dX21_run_22 rfl ?_
      refine hr_goto hC 27 dX21_run_23 (by decide) ?_
      exact hr_sub _ rfl (J67 _ (by first | (rw [if_neg c69, if_pos c70]; done) | (simp only [if_neg c69, if_pos c70]; done) | rfl))
    · refine hr_iload_n hC dX21_run_11 rfl ?_
      refine hr_if_lt (x := _) hC 22 dX21_run_12 (by decide) (fun c71 => ?_) (fun c71 => ?_)
      · refine hr_iconst (v := 1) hC dX21_run_22 rfl ?_
        refine hr_goto hC 27 dX21_run_23 (by decide) ?_
        exact hr_sub _ rfl (J67 _ (by first | (rw [if_neg c69, if_neg c70, if_pos c71]; done) | (simp only [if_neg c69, if_neg c70, if_pos c71]; done) | rfl))
      · refine hr_iload_n hC dX21_run_15 rfl ?_
        refine hr_sipush (v := 1024) hC dX21_run_16 rfl ?_
        refine hr_icmp_le (x := _) hC 26 dX21_run_19 (by decide) (fun c72 => ?_) (fun c72 => ?_)
        · refine hr_iconst (v := 0) hC dX21_run_26 rfl ?_
          exact hr_sub _ rfl (J67 _ (by first | (rw [if_neg c69, if_neg c70, if_neg c71, if_pos c72]; done) | (simp only [if_neg c69, if_neg c70, if_neg c71, if_pos c72]; done) | rfl))
        · refine hr_iconst (v := 1) hC dX21_run_22 rfl ?_
          refine hr_goto hC 27 dX21_run_23 (by decide) ?_
          exact hr_sub _ rfl (J67 _ (by first | (rw [if_neg c69, if_neg c70, if_neg c71, if_neg c72]; done) | (simp only [if_neg c69, if_neg c70, if_neg c71, if_neg c72]; done) | rfl))
/-- HomeCompilerModel.life()I -/
def fm_X21_life   (σ : hc_St) : Option (Int32 × hc_St) := hl (pI σ 23 4 0) fun σ1 => some ((gI σ1 23 86), σ1)
set_option maxRecDepth 20000 in
set_option maxHeartbeats 4000000 in
theorem okX21_life (l : Launch) (E : hc_E) (A : Nat → Prop) (d : Nat)  (hD : 1 ≤ d)  {σ : hc_St} {r : (Int32 × hc_St)} (h : fm_X21_life   σ = some r) (am : Nat → Nat → Nat) : hc_M l hc_V0 yX21_life (ws_ yX21_life cX21_life 1 (some .int)) d E A [.ref (E.2.1 23)] am [] σ (.inl (some (.int r.1))) r.2 := by
  have hd1 : 1 ≤ d := by omega
  refine hc_enter2 (own := RX21) [(0, .ref (E.2.1 23))] pl_X21 rfl hc_V0_st hc_G0_nd rfl (Nat.le_of_ble_eq_true rfl) (fun X hC hem => ?_)
  unfold fm_X21_life at h
  refine hr_aload_n hC dX21_life_0 rfl ?_
  refine hr_iconst (v := 0) hC dX21_life_1 rfl ?_
  obtain ⟨σ1, hσ1, h⟩ := hl_ok h
  refine hr_pI hC F23_4 PX21_4 dX21_life_2 q2846 ?_
  rw [← hσ1]
  refine hr_aload_n hC dX21_life_5 rfl ?_
  refine hr_gI hC F23_86 dX21_life_6 q2927 ?_
  obtain rfl := Option.some.inj h
  exact hr_iret hC dX21_life_9
/-- HomeCompilerModel.input(I)V -/
def fm_X21_input  (x1 : Int32) (σ : hc_St) : Option hc_St := hl (α := Int32) ((if (gI σ 23 83) = 64 then 1 else 0)) fun v3 => hl (pI σ 23 4 v3) fun σ4 => Option.bind (α := hc_St) (if (gI σ4 23 4) = 0 then (hk (inb ((gI σ4 23 83)) (gL σ4 23 84)) <| hl (pC σ4 23 84 ((gI σ4 23 83)) x1) fun σ12 => hl (pI σ12 23 83 ((((gI σ12 23 83)) + 1))) fun σ13 => some (σ13)) else (some (σ4))) fun r7 => some r7
set_option maxRecDepth 20000 in
set_option maxHeartbeats 4000000 in
theorem okX21_input (l : Launch) (E : hc_E) (A : Nat → Prop) (d : Nat)  (hD : 1 ≤ d) {x1 : Int32} {σ : hc_St} {r : hc_St} (h : fm_X21_input  x1 σ = some r) (am : Nat → Nat → Nat) : hc_M l hc_V0 yX21_input (ws_ yX21_input cX21_input 2 none) d E A [.ref (E.2.1 23), .int x1] am [] σ (.inl none) r := by
  have hd1 : 1 ≤ d := by omega
  refine hc_enter2 (own := RX21) [(0, .ref (E.2.1 23)), (1, .int x1)] pl_X21 rfl hc_V0_st hc_G0_nd rfl (Nat.le_of_ble_eq_true rfl) (fun X hC hem => ?_)
  unfold fm_X21_input at h
  refine hr_aload_n hC dX21_input_0 rfl ?_
  refine hr_aload_n hC dX21_input_1 rfl ?_
  refine hr_gI hC F23_83 dX21_input_2 q2924 ?_
  refine hr_bipush (v := 64) hC dX21_input_5 rfl ?_
  obtain ⟨v3, hv3, h⟩ := hl_ok h
  have J14 : ∀ w15 : Int32, (if (gI σ 23 83) = 64 then 1 else 0) = w15 → hc_At hc_V0 E 2 X 15 [(0, .ref (E.2.1 23)), (1, .int x1)] [.int w15, .ref (E.2.1 23)] σ am [] := by
    intro w15 hw15
    obtain rfl := hv3.trans hw15
    obtain ⟨σ4, hσ4, h⟩ := hl_ok h
    refine hr_pI hC F23_4 PX21_4 dX21_input_15 q2846 ?_
    rw [← hσ4]
    refine hr_aload_n hC dX21_input_18 rfl ?_
    refine hr_gI hC F23_4 dX21_input_19 q2846 ?_
    obtain ⟨r7, e8, h⟩ := hx_bind h
    have J9 : hc_At hc_V0 E 2 X 45 [] [] r7 am [] := by
      obtain rfl := Option.some.inj h
      exact hr_vret hC dX21_input_45
    clear h
    have h := e8
    refine hr_if_ne (x := _) hC 45 dX21_input_22 (by decide) (fun c6 => ?_) (fun c6 => ?_)
    · rw [if_neg c6] at h
      obtain rfl := Option.some.inj h
      exact hr_sub _ rfl (J9)
    · rw [if_pos c6] at h
      refine hr_aload_n hC dX21_input_25 rfl ?_
      refine hr_gA hC F23_84 rfl dX21_input_26 q2925 ?_
      refine hr_aload_n hC dX21_input_29 rfl ?_
      refine hr_gI hC F23_83 dX21_input_30 q2924 ?_
      refine hr_iload_n hC dX21_input_33 rfl ?_
      obtain ⟨c11, h⟩ := hk_ok h
      obtain ⟨σ12, hσ12, h⟩ := hl_ok h
      refine hs_iast hC A23_84 c11 dX21_input_34 ?_
      rw [← hσ12]
      refine hr_aload_n hC dX21_input_35 rfl ?_
      refine hr_dup hC dX21_input_36 rfl ?_
      refine hr_gI hC F23_83 dX21_input_37 q2924 ?_
      refine hr_iconst (v := 1) hC dX21_input_40 rfl ?_
      refine hr_iadd hC dX21_input_41 ?_
      obtain ⟨σ13, hσ13, h⟩ := hl_ok h
      refine hr_pI hC F23_83 PX21_83 dX21_input_42 q2924 ?_
      rw [← hσ13]
      obtain rfl := Option.some.inj h
      exact hr_sub _ rfl (J9)
  refine hr_icmp_ne (x := _) hC 14 dX21_input_7 (by decide) (fun c16 => ?_) (fun c16 => ?_)
  · refine hr_iconst (v := 0) hC dX21_input_14 rfl ?_
    exact hr_sub _ rfl (J14 _ (by first | (rw [if_neg c16]; done) | (simp only [if_neg c16]; done) | rfl))
  · refine hr_iconst (v := 1) hC dX21_input_10 rfl ?_
    refine hr_goto hC 15 dX21_input_11 (by decide) ?_
    exact hr_sub _ rfl (J14 _ (by first | (rw [if_pos c16]; done) | (simp only [if_pos c16]; done) | rfl))
/-- HomeCompilerModel.value()I -/
def fm_X21_value   (σ : hc_St) : Option (Int32 × hc_St) := hl (pI σ 23 4 0) fun σ1 => some ((gI σ1 23 78), σ1)
set_option maxRecDepth 20000 in
set_option maxHeartbeats 4000000 in
theorem okX21_value (l : Launch) (E : hc_E) (A : Nat → Prop) (d : Nat)  (hD : 1 ≤ d)  {σ : hc_St} {r : (Int32 × hc_St)} (h : fm_X21_value   σ = some r) (am : Nat → Nat → Nat) : hc_M l hc_V0 yX21_value (ws_ yX21_value cX21_value 1 (some .int)) d E A [.ref (E.2.1 23)] am [] σ (.inl (some (.int r.1))) r.2 := by
  have hd1 : 1 ≤ d := by omega
  refine hc_enter2 (own := RX21) [(0, .ref (E.2.1 23))] pl_X21 rfl hc_V0_st hc_G0_nd rfl (Nat.le_of_ble_eq_true rfl) (fun X hC hem => ?_)
  unfold fm_X21_value at h
  refine hr_aload_n hC dX21_value_0 rfl ?_
  refine hr_iconst (v := 0) hC dX21_value_1 rfl ?_
  obtain ⟨σ1, hσ1, h⟩ := hl_ok h
  refine hr_pI hC F23_4 PX21_4 dX21_value_2 q2846 ?_
  rw [← hσ1]
  refine hr_aload_n hC dX21_value_5 rfl ?_
  refine hr_gI hC F23_78 dX21_value_6 q2919 ?_
  obtain rfl := Option.some.inj h
  exact hr_iret hC dX21_value_9
/-- HomeCompilerModel.left()I -/
def fm_X21_left   (σ : hc_St) : Option (Int32 × hc_St) := hl (pI σ 23 4 0) fun σ1 => some ((gI σ1 23 79), σ1)
set_option maxRecDepth 20000 in
set_option maxHeartbeats 4000000 in
theorem okX21_left (l : Launch) (E : hc_E) (A : Nat → Prop) (d : Nat)  (hD : 1 ≤ d)  {σ : hc_St} {r : (Int32 × hc_St)} (h : fm_X21_left   σ = some r) (am : Nat → Nat → Nat) : hc_M l hc_V0 yX21_left (ws_ yX21_left cX21_left 1 (some .int)) d E A [.ref (E.2.1 23)] am [] σ (.inl (some (.int r.1))) r.2 := by
  have hd1 : 1 ≤ d := by omega
  refine hc_enter2 (own := RX21) [(0, .ref (E.2.1 23))] pl_X21 rfl hc_V0_st hc_G0_nd rfl (Nat.le_of_ble_eq_true rfl) (fun X hC hem => ?_)
  unfold fm_X21_left at h
  refine hr_aload_n hC dX21_left_0 rfl ?_
  refine hr_iconst (v := 0) hC dX21_left_1 rfl ?_
  obtain ⟨σ1, hσ1, h⟩ := hl_ok h
  refine hr_pI hC F23_4 PX21_4 dX21_left_2 q2846 ?_
  rw [← hσ1]
  refine hr_aload_n hC dX21_left_5 rfl ?_
  refine hr_gI hC F23_79 dX21_left_6 q2920 ?_
  obtain rfl := Option.some.inj h
  exact hr_iret hC dX21_left_9
/-- HomeCompilerModel.paper()I -/
def fm_X21_paper   (σ : hc_St) : Option (Int32 × hc_St) := hl (pI σ 23 4 0) fun σ1 => some ((gI σ1 23 81), σ1)
set_option maxRecDepth 20000 in
set_option maxHeartbeats 4000000 in
theorem okX21_paper (l : Launch) (E : hc_E) (A : Nat → Prop) (d : Nat)  (hD : 1 ≤ d)  {σ : hc_St} {r : (Int32 × hc_St)} (h : fm_X21_paper   σ = some r) (am : Nat → Nat → Nat) : hc_M l hc_V0 yX21_paper (ws_ yX21_paper cX21_paper 1 (some .int)) d E A [.ref (E.2.1 23)] am [] σ (.inl (some (.int r.1))) r.2 := by
  have hd1 : 1 ≤ d := by omega
  refine hc_enter2 (own := RX21) [(0, .ref (E.2.1 23))] pl_X21 rfl hc_V0_st hc_G0_nd rfl (Nat.le_of_ble_eq_true rfl) (fun X hC hem => ?_)
  unfold fm_X21_paper at h
  refine hr_aload_n hC dX21_paper_0 rfl ?_
  refine hr_iconst (v := 0) hC dX21_paper_1 rfl ?_
  obtain ⟨σ1, hσ1, h⟩ := hl_ok h
  refine hr_pI hC F23_4 PX21_4 dX21_paper_2 q2846 ?_
  rw [← hσ1]
  refine hr_aload_n hC dX21_paper_5 rfl ?_
  refine hr_gI hC F23_81 dX21_paper_6 q2922 ?_
  obtain rfl := Option.some.inj h
  exact hr_iret hC dX21_paper_9
/-- HomeCompilerModel.paperAt(I)I -/
def fm_X21_paperAt  (x1 : Int32) (σ : hc_St) : Option (Int32 × hc_St) := hl (α := Int32) ((if x1 < 0 then 1 else (if (gI σ 23 81) ≤ x1 then 1 else (if x1 ≤ 1023 then 0 else 1)))) fun v3 => hl (pI σ 23 4 v3) fun σ4 => Option.bind (α := Int32) (if (gI σ4 23 4) ≤ 0 then (hk (inb x1 (gL σ4 23 82)) <| some ((gC σ4 23 82 x1))) else (some (0))) fun r7 => some (r7, σ4)
set_option maxRecDepth 20000 in
set_option maxHeartbeats 4000000 in
theorem okX21_paperAt (l : Launch) (E : hc_E) (A : Nat → Prop) (d : Nat)  (hD : 1 ≤ d) {x1 : Int32} {σ : hc_St} {r : (Int32 × hc_St)} (h : fm_X21_paperAt  x1 σ = some r) (am : Nat → Nat → Nat) : hc_M l hc_V0 yX21_paperAt (ws_ yX21_paperAt cX21_paperAt 2 (some .int)) d E A [.ref (E.2.1 23), .int x1] am [] σ (.inl (some (.int r.1))) r.2 := by
  have hd1 : 1 ≤ d := by omega
  refine hc_enter2 (own := RX21) [(0, .ref (E.2.1 23)), (1, .int x1)] pl_X21 rfl hc_V0_st hc_G0_nd rfl (Nat.le_of_ble_eq_true rfl) (fun X hC hem => ?_)
  unfold fm_X21_paperAt at h
  refine hr_aload_n hC dX21_paperAt_0 rfl ?_
  refine hr_iload_n hC dX21_paperAt_1 rfl ?_
  obtain ⟨v3, hv3, h⟩ := hl_ok h
  have J12 : ∀ w13 : Int32, (if x1 < 0 then 1 else (if (gI σ 23 81) ≤ x1 then 1 else (if x1 ≤ 1023 then 0 else 1))) = w13 → hc_At hc_V0 E 2 X 25 [(0, .ref (E.2.1 23)), (1, .int x1)] [.int w13, .ref (E.2.1 23)] σ am [] := by
    intro w13 hw13
    obtain rfl := hv3.trans hw13
    obtain ⟨σ4, hσ4, h⟩ := hl_ok h
    refine hr_pI hC F23_4 PX21_4 dX21_paperAt_25 q2846 ?_
    rw [← hσ4]
    refine hr_aload_n hC dX21_paperAt_28 rfl ?_
    refine hr_gI hC F23_4 dX21_paperAt_29 q2846 ?_
    obtain ⟨r7, e8, h⟩ := hx_bind h
    have J9 : hc_At hc_V0 E 2 X 45 [] [.int r7] σ4 am [] := by
      obtain rfl := Option.some.inj h
      exact hr_iret hC dX21_paperAt_45
    clear h
    have h := e8
    refine hr_if_le (x := _) hC 39 dX21_paperAt_32 (by decide) (fun c6 => ?_) (fun c6 => ?_)
    · rw [if_pos c6] at h
      refine hr_aload_n hC dX21_paperAt_39 rfl ?_
      refine hr_gA hC F23_82 rfl dX21_paperAt_40 q2923 ?_
      refine hr_iload_n hC dX21_paperAt_43 rfl ?_
      obtain ⟨c11, h⟩ := hk_ok h
      refine hs_iald hC A23_82 c11 dX21_paperAt_44 ?_
      obtain rfl := Option.some.inj h
      exact hr_sub _ rfl (J9)
    · rw [if_neg c6] at h
      refine hr_iconst (v := 0) hC dX21_paperAt_35 rfl ?_
      refine hr_goto hC 45 dX21_paperAt_36 (by decide) ?_
      obtain rfl := Option.some.inj h
      exact hr_sub _ rfl (J9)
  refine hr_if_lt (x := _) hC 20 dX21_paperAt_2 (by decide) (fun c14 => ?_) (fun c14 => ?_)
  · refine hr_iconst (v := 1) hC dX21_paperAt_20 rfl ?_
    refine hr_goto hC 25 dX21_paperAt_21 (by decide) ?_
    exact hr_sub _ rfl (J12 _ (by first | (rw [if_pos c14]; done) | (simp only [if_pos c14]; done) | rfl))
  · refine hr_iload_n hC dX21_paperAt_5 rfl ?_
    refine hr_aload_n hC dX21_paperAt_6 rfl ?_
    refine hr_gI hC F23_81 dX21_paperAt_7 q2922 ?_
    refine hr_icmp_ge (x := _) hC 20 dX21_paperAt_10 (by decide) (fun c15 => ?_) (fun c15 => ?_)
    · refine hr_iconst (v := 1) hC dX21_paperAt_20 rfl ?_
      refine hr_goto hC 25 dX21_paperAt_21 (by decide) ?_
      exact hr_sub _ rfl (J12 _ (by first | (rw [if_neg c14, if_pos c15]; done) | (simp only [if_neg c14, if_pos c15]; done) | rfl))
    · refine hr_iload_n hC dX21_paperAt_13 rfl ?_
      refine hr_sipush (v := 1023) hC dX21_paperAt_14 rfl ?_
      refine hr_icmp_le (x := _) hC 24 dX21_paperAt_17 (by decide) (fun c16 => ?_) (fun c16 => ?_)
      · refine hr_iconst (v := 0) hC dX21_paperAt_24 rfl ?_
        exact hr_sub _ rfl (J12 _ (by first | (rw [if_neg c14, if_neg c15, if_pos c16]; done) | (simp only [if_neg c14, if_neg c15, if_pos c16]; done) | rfl))
      · refine hr_iconst (v := 1) hC dX21_paperAt_20 rfl ?_
        refine hr_goto hC 25 dX21_paperAt_21 (by decide) ?_
        exact hr_sub _ rfl (J12 _ (by first | (rw [if_neg c14, if_neg c15, if_neg c16]; done) | (simp only [if_neg c14, if_neg c15, if_neg c16]; done) | rfl))
/-- HomeCompilerModel.inputs()I -/
def fm_X21_inputs   (σ : hc_St) : Option (Int32 × hc_St) := hl (pI σ 23 4 0) fun σ1 => some ((gI σ1 23 83), σ1)
set_option maxRecDepth 20000 in
set_option maxHeartbeats 4000000 in
theorem okX21_inputs (l : Launch) (E : hc_E) (A : Nat → Prop) (d : Nat)  (hD : 1 ≤ d)  {σ : hc_St} {r : (Int32 × hc_St)} (h : fm_X21_inputs   σ = some r) (am : Nat → Nat → Nat) : hc_M l hc_V0 yX21_inputs (ws_ yX21_inputs cX21_inputs 1 (some .int)) d E A [.ref (E.2.1 23)] am [] σ (.inl (some (.int r.1))) r.2 := by
  have hd1 : 1 ≤ d := by omega
  refine hc_enter2 (own := RX21) [(0, .ref (E.2.1 23))] pl_X21 rfl hc_V0_st hc_G0_nd rfl (Nat.le_of_ble_eq_true rfl) (fun X hC hem => ?_)
  unfold fm_X21_inputs at h
  refine hr_aload_n hC dX21_inputs_0 rfl ?_
  refine hr_iconst (v := 0) hC dX21_inputs_1 rfl ?_
  obtain ⟨σ1, hσ1, h⟩ := hl_ok h
  refine hr_pI hC F23_4 PX21_4 dX21_inputs_2 q2846 ?_
  rw [← hσ1]
  refine hr_aload_n hC dX21_inputs_5 rfl ?_
  refine hr_gI hC F23_83 dX21_inputs_6 q2924 ?_
  obtain rfl := Option.some.inj h
  exact hr_iret hC dX21_inputs_9
/-- HomeCompilerModel.disk(I)I -/
def fm_X21_disk  (x1 : Int32) (σ : hc_St) : Option (Int32 × hc_St) := hl (α := Int32) ((if x1 < 0 then 1 else (if x1 ≤ 127 then 0 else 1))) fun v3 => hl (pI σ 23 4 v3) fun σ4 => Option.bind (α := Int32) (if (gI σ4 23 4) ≤ 0 then (hk (inb x1 (gL σ4 23 85)) <| some ((gC σ4 23 85 x1))) else (some (0))) fun r7 => some (r7, σ4)
set_option maxRecDepth 20000 in
set_option maxHeartbeats 4000000 in
theorem okX21_disk (l : Launch) (E : hc_E) (A : Nat → Prop) (d : Nat)  (hD : 1 ≤ d) {x1 : Int32} {σ : hc_St} {r : (Int32 × hc_St)} (h : fm_X21_disk  x1 σ = some r) (am : Nat → Nat → Nat) : hc_M l hc_V0 yX21_disk (ws_ yX21_disk cX21_disk 2 (some .int)) d E A [.ref (E.2.1 23), .int x1] am [] σ (.inl (some (.int r.1))) r.2 := by
  have hd1 : 1 ≤ d := by omega
  refine hc_enter2 (own := RX21) [(0, .ref (E.2.1 23)), (1, .int x1)] pl_X21 rfl hc_V0_st hc_G0_nd rfl (Nat.le_of_ble_eq_true rfl) (fun X hC hem => ?_)
  unfold fm_X21_disk at h
  refine hr_aload_n hC dX21_disk_0 rfl ?_
  refine hr_iload_n hC dX21_disk_1 rfl ?_
  obtain ⟨v3, hv3, h⟩ := hl_ok h
  have J12 : ∀ w13 : Int32, (if x1 < 0 then 1 else (if x1 ≤ 127 then 0 else 1)) = w13 → hc_At hc_V0 E 2 X 16 [(0, .ref (E.2.1 23)), (1, .int x1)] [.int w13, .ref (E.2.1 23)] σ am [] := by
    intro w13 hw13
    obtain rfl := hv3.trans hw13
    obtain ⟨σ4, hσ4, h⟩ := hl_ok h
    refine hr_pI hC F23_4 PX21_4 dX21_disk_16 q2846 ?_
    rw [← hσ4]
    refine hr_aload_n hC dX21_disk_19 rfl ?_
    refine hr_gI hC F23_4 dX21_disk_20 q2846 ?_
    obtain ⟨r7, e8, h⟩ := hx_bind h
    have J9 : hc_At hc_V0 E 2 X 36 [] [.int r7] σ4 am [] := by
      obtain rfl := Option.some.inj h
      exact hr_iret hC dX21_disk_36
    clear h
    have h := e8
    refine hr_if_le (x := _) hC 30 dX21_disk_23 (by decide) (fun c6 => ?_) (fun c6 => ?_)
    · rw [if_pos c6] at h
      refine hr_aload_n hC dX21_disk_30 rfl ?_
      refine hr_gA hC F23_85 rfl dX21_disk_31 q2926 ?_
      refine hr_iload_n hC dX21_disk_34 rfl ?_
      obtain ⟨c11, h⟩ := hk_ok h
      refine hs_iald hC A23_85 c11 dX21_disk_35 ?_
      obtain rfl := Option.some.inj h
      exact hr_sub _ rfl (J9)
    · rw [if_neg c6] at h
      refine hr_iconst (v := 0) hC dX21_disk_26 rfl ?_
      refine hr_goto hC 36 dX21_disk_27 (by decide) ?_
      obtain rfl := Option.some.inj h
      exact hr_sub _ rfl (J9)
  refine hr_if_lt (x := _) hC 11 dX21_disk_2 (by decide) (fun c14 => ?_) (fun c14 => ?_)
  · refine hr_iconst (v := 1) hC dX21_disk_11 rfl ?_
    refine hr_goto hC 16 dX21_disk_12 (by decide) ?_
    exact hr_sub _ rfl (J12 _ (by first | (rw [if_pos c14]; done) | (simp only [if_pos c14]; done) | rfl))
  · refine hr_iload_n hC dX21_disk_5 rfl ?_
    refine hr_bipush (v := 127) hC dX21_disk_6 rfl ?_
    refine hr_icmp_le (x := _) hC 15 dX21_disk_8 (by decide) (fun c15 => ?_) (fun c15 => ?_)
    · refine hr_iconst (v := 0) hC dX21_disk_15 rfl ?_
      exact hr_sub _ rfl (J12 _ (by first | (rw [if_neg c14, if_pos c15]; done) | (simp only [if_neg c14, if_pos c15]; done) | rfl))
    · refine hr_iconst (v := 1) hC dX21_disk_11 rfl ?_
      refine hr_goto hC 16 dX21_disk_12 (by decide) ?_
      exact hr_sub _ rfl (J12 _ (by first | (rw [if_neg c14, if_neg c15]; done) | (simp only [if_neg c14, if_neg c15]; done) | rfl))
/-- HomeCompilerModel.setDisk(II)V -/
def fm_X21_setDisk  (x1 : Int32) (x2 : Int32) (σ : hc_St) : Option hc_St := hl (α := Int32) ((if x1 < 0 then 1 else (if x1 ≤ 127 then 0 else 1))) fun v3 => hl (pI σ 23 4 v3) fun σ4 => Option.bind (α := hc_St) (if (gI σ4 23 4) = 0 then (hk (inb x1 (gL σ4 23 85)) <| hl (pC σ4 23 85 x1 x2) fun σ12 => some (σ12)) else (some (σ4))) fun r7 => some r7
set_option maxRecDepth 20000 in
set_option maxHeartbeats 4000000 in
theorem okX21_setDisk (l : Launch) (E : hc_E) (A : Nat → Prop) (d : Nat)  (hD : 1 ≤ d) {x1 : Int32} {x2 : Int32} {σ : hc_St} {r : hc_St} (h : fm_X21_setDisk  x1 x2 σ = some r) (am : Nat → Nat → Nat) : hc_M l hc_V0 yX21_setDisk (ws_ yX21_setDisk cX21_setDisk 3 none) d E A [.ref (E.2.1 23), .int x1, .int x2] am [] σ (.inl none) r := by
  have hd1 : 1 ≤ d := by omega
  refine hc_enter2 (own := RX21) [(0, .ref (E.2.1 23)), (1, .int x1), (2, .int x2)] pl_X21 rfl hc_V0_st hc_G0_nd rfl (Nat.le_of_ble_eq_true rfl) (fun X hC hem => ?_)
  unfold fm_X21_setDisk at h
  refine hr_aload_n hC dX21_setDisk_0 rfl ?_
  refine hr_iload_n hC dX21_setDisk_1 rfl ?_
  obtain ⟨v3, hv3, h⟩ := hl_ok h
  have J13 : ∀ w14 : Int32, (if x1 < 0 then 1 else (if x1 ≤ 127 then 0 else 1)) = w14 → hc_At hc_V0 E 3 X 16 [(0, .ref (E.2.1 23)), (1, .int x1), (2, .int x2)] [.int w14, .ref (E.2.1 23)] σ am [] := by
    intro w14 hw14
    obtain rfl := hv3.trans hw14
    obtain ⟨σ4, hσ4, h⟩ := hl_ok h
    refine hr_pI hC F23_4 PX21_4 dX21_setDisk_16 q2846 ?_
    rw [← hσ4]
    refine hr_aload_n hC dX21_setDisk_19 rfl ?_
    refine hr_gI hC F23_4 dX21_setDisk_20 q2846 ?_
    obtain ⟨r7, e8, h⟩ := hx_bind h
    have J9 : hc_At hc_V0 E 3 X 33 [] [] r7 am [] := by
      obtain rfl := Option.some.inj h
      exact hr_vret hC dX21_setDisk_33
    clear h
    have h := e8
    refine hr_if_ne (x := _) hC 33 dX21_setDisk_23 (by decide) (fun c6 => ?_) (fun c6 => ?_)
    · rw [if_neg c6] at h
      obtain rfl := Option.some.inj h
      exact hr_sub _ rfl (J9)
    · rw [if_pos c6] at h
      refine hr_aload_n hC dX21_setDisk_26 rfl ?_
      refine hr_gA hC F23_85 rfl dX21_setDisk_27 q2926 ?_
      refine hr_iload_n hC dX21_setDisk_30 rfl ?_
      refine hr_iload_n hC dX21_setDisk_31 rfl ?_
      obtain ⟨c11, h⟩ := hk_ok h
      obtain ⟨σ12, hσ12, h⟩ := hl_ok h
      refine hs_iast hC A23_85 c11 dX21_setDisk_32 ?_
      rw [← hσ12]
      obtain rfl := Option.some.inj h
      exact hr_sub _ rfl (J9)
  refine hr_if_lt (x := _) hC 11 dX21_setDisk_2 (by decide) (fun c15 => ?_) (fun c15 => ?_)
  · refine hr_iconst (v := 1) hC dX21_setDisk_11 rfl ?_
    refine hr_goto hC 16 dX21_setDisk_12 (by decide) ?_
    exact hr_sub _ rfl (J13 _ (by first | (rw [if_pos c15]; done) | (simp only [if_pos c15]; done) | rfl))
  · refine hr_iload_n hC dX21_setDisk_5 rfl ?_
    refine hr_bipush (v := 127) hC dX21_setDisk_6 rfl ?_
    refine hr_icmp_le (x := _) hC 15 dX21_setDisk_8 (by decide) (fun c16 => ?_) (fun c16 => ?_)
    · refine hr_iconst (v := 0) hC dX21_setDisk_15 rfl ?_
      exact hr_sub _ rfl (J13 _ (by first | (rw [if_neg c15, if_pos c16]; done) | (simp only [if_neg c15, if_pos c16]; done) | rfl))
    · refine hr_iconst (v := 1) hC dX21_setDisk_11 rfl ?_
      refine hr_goto hC 16 dX21_setDisk_12 (by decide) ?_
      exact hr_sub _ rfl (J13 _ (by first | (rw [if_neg c15, if_neg c16]; done) | (simp only [if_neg c15, if_neg c16]; done) | rfl))
def lp_X21_wordOf_29 (n : Nat) : Nat → Int32 → Int32 → Int32 → Int32 → hc_St → Option (Int32)
  | 0, _, _, _, _, _ => none
  | m + 1, y1, y2, y3, y4, σ => if y4 < 0 then (some (y3)) else (hk (inb y1 (gL σ 23 57)) <| Option.bind (α := Int32) (if (gC σ 23 57 y1) ≤ (((4 * y2)) + y4) then (some (0)) else (hk (inb y1 (gL σ 23 56)) <| hk (inb ((((gC σ 23 56 y1)) + ((((4 * y2)) + y4)))) (gL σ 23 66)) <| some ((gC σ 23 66 ((((gC σ 23 56 y1)) + ((((4 * y2)) + y4)))))))) fun r9 => lp_X21_wordOf_29 n m y1 y2 ((((y3 * 256)) + r9)) ((y4 + (-1))) σ)
/-- HomeCompilerModel.wordOf(II)I -/
def fm_X21_wordOf (n : Nat) (x1 : Int32) (x2 : Int32) (σ : hc_St) : Option Int32 := hk (inb x1 (gL σ 23 54)) <| if (gC σ 23 54 x1).toInt8.toInt32 = 3 then (Option.bind (lp_X21_wordOf_29 n n x1 x2 0 3 σ) fun r15 => some r15) else (hk (inb x1 (gL σ 23 56)) <| hk (inb ((((gC σ 23 56 x1)) + x2)) (gL σ 23 66)) <| some ((gC σ 23 66 ((((gC σ 23 56 x1)) + x2)))))
set_option maxRecDepth 20000 in
set_option maxHeartbeats 4000000 in
theorem ll_X21_wordOf_29 {l : Launch} {E : hc_E} {A : Nat → Prop} {am : Nat → Nat → Nat} {d : Nat} {X : hc_X} (n : Nat) (hD : 1 ≤ d) (hem : X.2.2.2.2.2.2.2.2.2.1.exceptionTable.isEmpty = true) {oc : hc_Oc} {σe : hc_St} (hC : hc_C hc_V0 E cX21_wordOf 6 RX21 (some .int) d oc σe (l, A, am, []) X) : ∀ (m : Nat) (σ : hc_St) (y1 : Int32) (y2 : Int32) (y3 : Int32) (y4 : Int32) (rl : Int32) (am1 : Nat → Nat → Nat), lp_X21_wordOf_29 n m y1 y2 y3 y4 σ = some rl → (hc_At hc_V0 E 6 X 84 [(3, .int rl)] [] σ am1 []) → hc_At hc_V0 E 6 X 29 [(0, .ref (E.2.1 23)), (1, .int y1), (2, .int y2), (3, .int y3), (4, .int y4)] [] σ am1 [] := by
  have hd1 : 1 ≤ d := by omega
  intro m
  induction m with
  | zero =>
    intro σ y1 y2 y3 y4 rl am1 h
    cases h
  | succ m ih =>
    intro σ y1 y2 y3 y4 rl am1 h JX
    rw [lp_X21_wordOf_29] at h
    refine hr_iload hC dX21_wordOf_29 rfl ?_
    refine hr_if_lt (x := _) hC 84 dX21_wordOf_31 (by decide) (fun c5 => ?_) (fun c5 => ?_)
    · rw [if_pos c5] at h
      obtain rfl := Option.some.inj h
      exact hr_sub _ rfl (JX)
    · rw [if_neg c5] at h
      refine hr_iconst (v := 4) hC dX21_wordOf_34 rfl ?_
      refine hr_iload_n hC dX21_wordOf_35 rfl ?_
      refine hr_imul hC dX21_wordOf_36 ?_
      refine hr_iload hC dX21_wordOf_37 rfl ?_
      refine hr_iadd hC dX21_wordOf_39 ?_
      refine hr_istore hC dX21_wordOf_40 (by decide) ?_
      refine hr_iload_n hC dX21_wordOf_42 rfl ?_
      refine hr_sipush (v := 256) hC dX21_wordOf_43 rfl ?_
      refine hr_imul hC dX21_wordOf_46 ?_
      refine hr_iload hC dX21_wordOf_47 rfl ?_
      refine hr_aload_n hC dX21_wordOf_49 rfl ?_
      refine hr_gA hC F23_57 rfl dX21_wordOf_50 q2898 ?_
      refine hr_iload_n hC dX21_wordOf_53 rfl ?_
      obtain ⟨c6, h⟩ := hk_ok h
      refine hs_iald hC A23_57 c6 dX21_wordOf_54 ?_
      obtain ⟨r9, e10, h⟩ := hx_bind h
      have J11 : hc_At hc_V0 E 6 X 76 [(0, .ref (E.2.1 23)), (1, .int y1), (2, .int y2), (4, .int y4)] [.int r9, .int (y3 * 256)] σ am1 [] := by
        refine hr_iadd hC dX21_wordOf_76 ?_
        refine hr_istore_n hC dX21_wordOf_77 (by decide) ?_
        refine hr_iinc (v := y4 + (-1)) hC dX21_wordOf_78 rfl rfl (by decide) ?_
        refine hr_goto hC 29 dX21_wordOf_81 (by decide) ?_
        exact hr_sub _ rfl (ih _ _ _ _ _ _ am1 h JX)
      clear h
      have h := e10
      refine hr_icmp_ge (x := _) hC 75 dX21_wordOf_55 (by decide) (fun c8 => ?_) (fun c8 => ?_)
      · rw [if_pos c8] at h
        refine hr_iconst (v := 0) hC dX21_wordOf_75 rfl ?_
        obtain rfl := Option.some.inj h
        exact hr_sub _ rfl (J11)
      · rw [if_neg c8] at h
        refine hr_aload_n hC dX21_wordOf_58 rfl ?_
        refine hr_gA hC F23_66 rfl dX21_wordOf_59 q2907 ?_
        refine hr_aload_n hC dX21_wordOf_62 rfl ?_
        refine hr_gA hC F23_56 rfl dX21_wordOf_63 q2897 ?_
        refine hr_iload_n hC dX21_wordOf_66 rfl ?_
        obtain ⟨c13, h⟩ := hk_ok h
        refine hs_iald hC A23_56 c13 dX21_wordOf_67 ?_
        refine hr_iload hC dX21_wordOf_68 rfl ?_
        refine hr_iadd hC dX21_wordOf_70 ?_
        obtain ⟨c14, h⟩ := hk_ok h
        refine hs_iald hC A23_66 c14 dX21_wordOf_71 ?_
        refine hr_goto hC 76 dX21_wordOf_72 (by decide) ?_
        obtain rfl := Option.some.inj h
        exact hr_sub _ rfl (J11)
set_option maxRecDepth 20000 in
set_option maxHeartbeats 4000000 in
theorem okX21_wordOf (l : Launch) (E : hc_E) (A : Nat → Prop) (d : Nat) (n : Nat) (hD : 1 ≤ d) {x1 : Int32} {x2 : Int32} {σ : hc_St} {r : Int32} (h : fm_X21_wordOf n x1 x2 σ = some r) (am : Nat → Nat → Nat) : hc_M l hc_V0 yX21_wordOf (ws_ yX21_wordOf cX21_wordOf 6 (some .int)) d E A [.ref (E.2.1 23), .int x1, .int x2] am [] σ (.inl (some (.int r))) σ := by
  have hd1 : 1 ≤ d := by omega
  refine hc_enter2 (own := RX21) [(0, .ref (E.2.1 23)), (1, .int x1), (2, .int x2)] pl_X21 rfl hc_V0_st hc_G0_nd rfl (Nat.le_of_ble_eq_true rfl) (fun X hC hem => ?_)
  unfold fm_X21_wordOf at h
  refine hr_aload_n hC dX21_wordOf_0 rfl ?_
  refine hr_gA hC F23_54 rfl dX21_wordOf_1 q2895 ?_
  refine hr_iload_n hC dX21_wordOf_4 rfl ?_
  obtain ⟨c1, h⟩ := hk_ok h
  refine hs_bald hC A23_54 c1 dX21_wordOf_5 ?_
  refine hr_iconst (v := 3) hC dX21_wordOf_6 rfl ?_
  refine hr_icmp_eq (x := _) hC 24 dX21_wordOf_7 (by decide) (fun c3 => ?_) (fun c3 => ?_)
  · rw [if_pos c3] at h
    refine hr_iconst (v := 0) hC dX21_wordOf_24 rfl ?_
    refine hr_istore_n hC dX21_wordOf_25 (by decide) ?_
    refine hr_iconst (v := 3) hC dX21_wordOf_26 rfl ?_
    refine hr_istore hC dX21_wordOf_27 (by decide) ?_
    obtain ⟨r15, e16, h⟩ := hx_bind h
    refine hr_sub _ rfl (ll_X21_wordOf_29 n hD hem hC n _ _ _ _ _ _ am e16 ?_)
    refine hr_iload_n hC dX21_wordOf_84 rfl ?_
    obtain rfl := Option.some.inj h
    exact hr_iret hC dX21_wordOf_85
  · rw [if_neg c3] at h
    refine hr_aload_n hC dX21_wordOf_10 rfl ?_
    refine hr_gA hC F23_66 rfl dX21_wordOf_11 q2907 ?_
    refine hr_aload_n hC dX21_wordOf_14 rfl ?_
    refine hr_gA hC F23_56 rfl dX21_wordOf_15 q2897 ?_
    refine hr_iload_n hC dX21_wordOf_18 rfl ?_
    obtain ⟨c20, h⟩ := hk_ok h
    refine hs_iald hC A23_56 c20 dX21_wordOf_19 ?_
    refine hr_iload_n hC dX21_wordOf_20 rfl ?_
    refine hr_iadd hC dX21_wordOf_21 ?_
    obtain ⟨c21, h⟩ := hk_ok h
    refine hs_iald hC A23_66 c21 dX21_wordOf_22 ?_
    obtain rfl := Option.some.inj h
    exact hr_iret hC dX21_wordOf_23
def lp_X21_variable_2_34 (n : Nat) : Nat → Int32 → Int32 → Int32 → hc_St → Option (Int32 × hc_St)
  | 0, _, _, _, _ => none
  | m + 1, y1, y2, y3, σ => if (gI σ 23 53) ≤ y3 then (some (0, σ)) else (hk (inb y3 (gL σ 23 55)) <| if (vp_nar .boolean (gC σ 23 55 y3)) = 0 then (lp_X21_variable_2_34 n m y1 y2 ((y3 + 1)) σ) else (hk (inb y3 (gL σ 23 57)) <| hk (inb y3 (gL σ 23 54)) <| Option.bind (α := Int32) (if (gC σ 23 54 y3).toInt8.toInt32 = 3 then (some ((((((gC σ 23 57 y3)) + 3)) / 4))) else (some ((gC σ 23 57 y3)))) fun r16 => if y1 < y2 then (lp_X21_variable_2_34 n m y1 ((y2 + r16)) ((y3 + 1)) σ) else (if (y2 + r16) ≤ y1 then (lp_X21_variable_2_34 n m y1 ((y2 + r16)) ((y3 + 1)) σ) else (Option.bind (fm_X21_wordOf n y3 ((y1 - y2)) σ) fun r24 => some (r24, σ)))))
/-- HomeCompilerModel.variable(I)I -/
def fm_X21_variable_2 (n : Nat) (x1 : Int32) (σ : hc_St) : Option (Int32 × hc_St) := hl (α := Int32) ((if x1 < 0 then 1 else (if x1 < (gI σ 23 46) then 0 else 1))) fun v3 => hl (pI σ 23 4 v3) fun σ4 => if (gI σ4 23 4) ≤ 0 then (lp_X21_variable_2_34 n n x1 0 0 σ4) else (some (0, σ4))
set_option maxRecDepth 20000 in
set_option maxHeartbeats 4000000 in
theorem ll_X21_variable_2_34 {l : Launch} {E : hc_E} {A : Nat → Prop} {am : Nat → Nat → Nat} {d : Nat} {X : hc_X} (n : Nat) (hD : 2 ≤ d) (hem : X.2.2.2.2.2.2.2.2.2.1.exceptionTable.isEmpty = true) : ∀ (m : Nat) (σ : hc_St) (y1 : Int32) (y2 : Int32) (y3 : Int32) (rl : (Int32 × hc_St)), lp_X21_variable_2_34 n m y1 y2 y3 σ = some rl → hc_C hc_V0 E cX21_variable_2 6 RX21 (some .int) d (.inl (some (.int rl.1))) rl.2 (l, A, am, []) X → ∀ am1, hc_At hc_V0 E 6 X 34 [(0, .ref (E.2.1 23)), (1, .int y1), (2, .int y2), (3, .int y3)] [] σ am1 [] := by
  have hd1 : 1 ≤ d := by omega
  intro m
  induction m with
  | zero =>
    intro σ y1 y2 y3 rl h
    cases h
  | succ m ih =>
    intro σ y1 y2 y3 rl h hC am1
    rw [lp_X21_variable_2_34] at h
    refine hr_iload_n hC dX21_variable_2_34 rfl ?_
    refine hr_aload_n hC dX21_variable_2_35 rfl ?_
    refine hr_gI hC F23_53 dX21_variable_2_36 q2894 ?_
    refine hr_icmp_ge (x := _) hC 115 dX21_variable_2_39 (by decide) (fun c8 => ?_) (fun c8 => ?_)
    · rw [if_pos c8] at h
      refine hr_iconst (v := 0) hC dX21_variable_2_115 rfl ?_
      obtain rfl := Option.some.inj h
      exact hr_iret hC dX21_variable_2_116
    · rw [if_neg c8] at h
      refine hr_aload_n hC dX21_variable_2_42 rfl ?_
      refine hr_gA hC F23_55 rfl dX21_variable_2_43 q2896 ?_
      refine hr_iload_n hC dX21_variable_2_46 rfl ?_
      obtain ⟨c9, h⟩ := hk_ok h
      refine hs_zald hC A23_55 c9 dX21_variable_2_47 ?_
      refine hr_if_eq (x := _) hC 109 dX21_variable_2_48 (by decide) (fun c11 => ?_) (fun c11 => ?_)
      · rw [if_pos c11] at h
        refine hr_iinc (v := y3 + 1) hC dX21_variable_2_109 rfl rfl (by decide) ?_
        refine hr_goto hC 34 dX21_variable_2_112 (by decide) ?_
        exact hr_sub _ rfl (ih _ _ _ _ _ h hC am1)
      · rw [if_neg c11] at h
        refine hr_aload_n hC dX21_variable_2_51 rfl ?_
        refine hr_gA hC F23_57 rfl dX21_variable_2_52 q2898 ?_
        refine hr_iload_n hC dX21_variable_2_55 rfl ?_
        obtain ⟨c12, h⟩ := hk_ok h
        refine hs_iald hC A23_57 c12 dX21_variable_2_56 ?_
        refine hr_istore hC dX21_variable_2_57 (by decide) ?_
        refine hr_aload_n hC dX21_variable_2_59 rfl ?_
        refine hr_gA hC F23_54 rfl dX21_variable_2_60 q2895 ?_
        refine hr_iload_n hC dX21_variable_2_63 rfl ?_
        obtain ⟨c13, h⟩ := hk_ok h
        refine hs_bald hC A23_54 c13 dX21_variable_2_64 ?_
        refine hr_iconst (v := 3) hC dX21_variable_2_65 rfl ?_
        obtain ⟨r16, e17, h⟩ := hx_bind h
        have J18 : hc_At hc_V0 E 6 X 80 [(0, .ref (E.2.1 23)), (1, .int y1), (2, .int y2), (3, .int y3)] [.int r16] σ am1 [] := by
          refine hr_istore hC dX21_variable_2_80 (by decide) ?_
          refine hr_iload_n hC dX21_variable_2_82 rfl ?_
          refine hr_iload_n hC dX21_variable_2_83 rfl ?_
          refine hr_icmp_lt (x := _) hC 104 dX21_variable_2_84 (by decide) (fun c21 => ?_) (fun c21 => ?_)
          · rw [if_pos c21] at h
            refine hr_iload_n hC dX21_variable_2_104 rfl ?_
            refine hr_iload hC dX21_variable_2_105 rfl ?_
            refine hr_iadd hC dX21_variable_2_107 ?_
            refine hr_istore_n hC dX21_variable_2_108 (by decide) ?_
            refine hr_iinc (v := y3 + 1) hC dX21_variable_2_109 rfl rfl (by decide) ?_
            refine hr_goto hC 34 dX21_variable_2_112 (by decide) ?_
            exact hr_sub _ rfl (ih _ _ _ _ _ h hC am1)
          · rw [if_neg c21] at h
            refine hr_iload_n hC dX21_variable_2_87 rfl ?_
            refine hr_iload_n hC dX21_variable_2_88 rfl ?_
            refine hr_iload hC dX21_variable_2_89 rfl ?_
            refine hr_iadd hC dX21_variable_2_91 ?_
            refine hr_icmp_ge (x := _) hC 104 dX21_variable_2_92 (by decide) (fun c23 => ?_) (fun c23 => ?_)
            · rw [if_pos c23] at h
              refine hr_iload_n hC dX21_variable_2_104 rfl ?_
              refine hr_iload hC dX21_variable_2_105 rfl ?_
              refine hr_iadd hC dX21_variable_2_107 ?_
              refine hr_istore_n hC dX21_variable_2_108 (by decide) ?_
              refine hr_iinc (v := y3 + 1) hC dX21_variable_2_109 rfl rfl (by decide) ?_
              refine hr_goto hC 34 dX21_variable_2_112 (by decide) ?_
              exact hr_sub _ rfl (ih _ _ _ _ _ h hC am1)
            · rw [if_neg c23] at h
              refine hr_aload_n hC dX21_variable_2_95 rfl ?_
              refine hr_iload_n hC dX21_variable_2_96 rfl ?_
              refine hr_iload_n hC dX21_variable_2_97 rfl ?_
              refine hr_iload_n hC dX21_variable_2_98 rfl ?_
              refine hr_isub hC dX21_variable_2_99 ?_
              obtain ⟨r24, e25, h⟩ := hx_bind h
              refine hs_callV0 hC 23 [_, _] _ dX21_variable_2_100 q3755 q3757 qs313 q335 q3758 np_X21 rfl OB_23 pd_X21_wordOf (Nat.le_of_ble_eq_true rfl) hd1 (okX21_wordOf l E A (d - 1) n (by omega)  e25 am1) rfl ?_
              obtain rfl := Option.some.inj h
              exact hr_iret hC dX21_variable_2_103
        clear h
        have h := e17
        refine hr_icmp_ne (x := _) hC 78 dX21_variable_2_66 (by decide) (fun c15 => ?_) (fun c15 => ?_)
        · rw [if_neg c15] at h
          refine hr_iload hC dX21_variable_2_78 rfl ?_
          obtain rfl := Option.some.inj h
          exact hr_sub _ rfl (J18)
        · rw [if_pos c15] at h
          refine hr_iload hC dX21_variable_2_69 rfl ?_
          refine hr_iconst (v := 3) hC dX21_variable_2_71 rfl ?_
          refine hr_iadd hC dX21_variable_2_72 ?_
          refine hr_iconst (v := 4) hC dX21_variable_2_73 rfl ?_
          refine hr_idiv hC dX21_variable_2_74 (by decide) ?_
          refine hr_goto hC 80 dX21_variable_2_75 (by decide) ?_
          obtain rfl := Option.some.inj h
          exact hr_sub _ rfl (J18)
set_option maxRecDepth 20000 in
set_option maxHeartbeats 4000000 in
theorem okX21_variable_2 (l : Launch) (E : hc_E) (A : Nat → Prop) (d : Nat) (n : Nat) (hD : 2 ≤ d) {x1 : Int32} {σ : hc_St} {r : (Int32 × hc_St)} (h : fm_X21_variable_2 n x1 σ = some r) (am : Nat → Nat → Nat) : hc_M l hc_V0 yX21_variable_2 (ws_ yX21_variable_2 cX21_variable_2 6 (some .int)) d E A [.ref (E.2.1 23), .int x1] am [] σ (.inl (some (.int r.1))) r.2 := by
  have hd1 : 1 ≤ d := by omega
  refine hc_enter2 (own := RX21) [(0, .ref (E.2.1 23)), (1, .int x1)] pl_X21 rfl hc_V0_st hc_G0_nd rfl (Nat.le_of_ble_eq_true rfl) (fun X hC hem => ?_)
  unfold fm_X21_variable_2 at h
  refine hr_aload_n hC dX21_variable_2_0 rfl ?_
  refine hr_iload_n hC dX21_variable_2_1 rfl ?_
  obtain ⟨v3, hv3, h⟩ := hl_ok h
  have J28 : ∀ w29 : Int32, (if x1 < 0 then 1 else (if x1 < (gI σ 23 46) then 0 else 1)) = w29 → hc_At hc_V0 E 6 X 18 [(0, .ref (E.2.1 23)), (1, .int x1)] [.int w29, .ref (E.2.1 23)] σ am [] := by
    intro w29 hw29
    obtain rfl := hv3.trans hw29
    obtain ⟨σ4, hσ4, h⟩ := hl_ok h
    refine hr_pI hC F23_4 PX21_4 dX21_variable_2_18 q2846 ?_
    rw [← hσ4]
    refine hr_aload_n hC dX21_variable_2_21 rfl ?_
    refine hr_gI hC F23_4 dX21_variable_2_22 q2846 ?_
    refine hr_if_le (x := _) hC 30 dX21_variable_2_25 (by decide) (fun c6 => ?_) (fun c6 => ?_)
    · rw [if_pos c6] at h
      refine hr_iconst (v := 0) hC dX21_variable_2_30 rfl ?_
      refine hr_istore_n hC dX21_variable_2_31 (by decide) ?_
      refine hr_iconst (v := 0) hC dX21_variable_2_32 rfl ?_
      refine hr_istore_n hC dX21_variable_2_33 (by decide) ?_
      exact hr_sub _ rfl (ll_X21_variable_2_34 n hD hem n _ _ _ _ _ h hC am)
    · rw [if_neg c6] at h
      refine hr_iconst (v := 0) hC dX21_variable_2_28 rfl ?_
      obtain rfl := Option.some.inj h
      exact hr_iret hC dX21_variable_2_29
  refine hr_if_lt (x := _) hC 13 dX21_variable_2_2 (by decide) (fun c30 => ?_) (fun c30 => ?_)
  · refine hr_iconst (v := 1) hC dX21_variable_2_13 rfl ?_
    refine hr_goto hC 18 dX21_variable_2_14 (by decide) ?_
    exact hr_sub _ rfl (J28 _ (by first | (rw [if_pos c30]; done) | (simp only [if_pos c30]; done) | rfl))
  · refine hr_iload_n hC dX21_variable_2_5 rfl ?_
    refine hr_aload_n hC dX21_variable_2_6 rfl ?_
    refine hr_gI hC F23_46 dX21_variable_2_7 q2887 ?_
    refine hr_icmp_lt (x := _) hC 17 dX21_variable_2_10 (by decide) (fun c31 => ?_) (fun c31 => ?_)
    · refine hr_iconst (v := 0) hC dX21_variable_2_17 rfl ?_
      exact hr_sub _ rfl (J28 _ (by first | (rw [if_neg c30, if_pos c31]; done) | (simp only [if_neg c30, if_pos c31]; done) | rfl))
    · refine hr_iconst (v := 1) hC dX21_variable_2_13 rfl ?_
      refine hr_goto hC 18 dX21_variable_2_14 (by decide) ?_
      exact hr_sub _ rfl (J28 _ (by first | (rw [if_neg c30, if_neg c31]; done) | (simp only [if_neg c30, if_neg c31]; done) | rfl))
