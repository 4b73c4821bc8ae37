set_option maxRecDepth 20000
/-- HomeCompilerModel.doDo(II)V -/
def fm_X21_doDo  (x1 : Int32) (x2 : Int32) (σ : hc_St) : Option hc_St := Option.bind (α := hc_St) (if x2 = 0 then (Option.bind (fm_X21_takesWork  σ) fun r29 => if r29.1 = 0 then (some (r29.2)) else (Option.bind (fm_X21_state 1 r29.2) fun r35 => hk (inb x1 (gL r35 23 22)) <| Option.bind (fm_X21_push ((gC r35 23 22 x1)) r35) fun r40 => some (r40))) else (if x2 = 1 then (Option.bind (fm_X21_state 2 σ) fun r20 => hk (inb x1 (gL r20 23 21)) <| Option.bind (fm_X21_push ((gC r20 23 21 x1)) r20) fun r25 => some (r25)) else (Option.bind (fm_X21_take_2  σ) fun r9 => if r9.1 = 0 then (hl (pI r9.2 23 69 ((((gI r9.2 23 69)) - 1))) fun σ15 => some (σ15)) else (Option.bind (fm_X21_state 0 r9.2) fun r16 => some (r16))))) fun r3 => some r3
set_option maxRecDepth 20000 in
set_option maxHeartbeats 4000000 in
theorem okX21_doDo (l : Launch) (E : hc_E) (A : Nat → Prop) (d : Nat)  (hD : 3 ≤ d) {x1 : Int32} {x2 : Int32} {σ : hc_St} {r : hc_St} (h : fm_X21_doDo  x1 x2 σ = some r) (am : Nat → Nat → Nat) : hc_M l hc_V0 yX21_doDo (ws_ yX21_doDo cX21_doDo 3 none) d E A [.ref (E.2.1 23), .int x1, .int x2] am [] σ (.inl none) r := by
  have hd1 : 1 ≤ d := by omega
  refine hc_enter2 (own := RX21) [(0, .ref (E.2.1 23)), (1, .int x1), (2, .int x2)] pl_X21 rfl hc_V0_st hc_G0_nd rfl (Nat.le_of_ble_eq_true rfl) (fun X hC hem => ?_)
  unfold fm_X21_doDo at h
  refine hr_iload_n hC dX21_doDo_0 rfl ?_
  obtain ⟨r3, e4, h⟩ := hx_bind h
  have J5 : hc_At hc_V0 E 3 X 77 [] [] r3 am [] := by
    obtain rfl := Option.some.inj h
    exact hr_vret hC dX21_doDo_77
  clear h
  have h := e4
  refine hr_if_ne (x := _) hC 29 dX21_doDo_1 (by decide) (fun c2 => ?_) (fun c2 => ?_)
  · rw [if_neg c2] at h
    refine hr_iload_n hC dX21_doDo_29 rfl ?_
    refine hr_iconst (v := 1) hC dX21_doDo_30 rfl ?_
    refine hr_icmp_ne (x := _) hC 52 dX21_doDo_31 (by decide) (fun c8 => ?_) (fun c8 => ?_)
    · rw [if_neg c8] at h
      refine hr_aload_n hC dX21_doDo_52 rfl ?_
      obtain ⟨r9, e10, h⟩ := hx_bind h
      refine hs_callV0 hC 23 [] _ dX21_doDo_53 q3615 q3617 qs288 q335 q3618 np_X21 rfl OB_23 pd_X21_take_2 (Nat.le_of_ble_eq_true rfl) hd1 (okX21_take_2 l E A (d - 1)  (by omega)  e10 am) rfl ?_
      refine hr_if_eq (x := _) hC 67 dX21_doDo_56 (by decide) (fun c14 => ?_) (fun c14 => ?_)
      · rw [if_pos c14] at h
        refine hr_aload_n hC dX21_doDo_67 rfl ?_
        refine hr_dup hC dX21_doDo_68 rfl ?_
        refine hr_gI hC F23_69 dX21_doDo_69 q2910 ?_
        refine hr_iconst (v := 1) hC dX21_doDo_72 rfl ?_
        refine hr_isub hC dX21_doDo_73 ?_
        obtain ⟨σ15, hσ15, h⟩ := hl_ok h
        refine hr_pI hC F23_69 PX21_69 dX21_doDo_74 q2910 ?_
        rw [← hσ15]
        obtain rfl := Option.some.inj h
        exact hr_sub _ rfl (J5)
      · rw [if_neg c14] at h
        refine hr_aload_n hC dX21_doDo_59 rfl ?_
        refine hr_iconst (v := 0) hC dX21_doDo_60 rfl ?_
        obtain ⟨r16, e17, h⟩ := hx_bind h
        refine hs_callV0 hC 23 [_] _ dX21_doDo_61 q3611 q3613 qs287 q335 q3614 np_X21 rfl OB_23 pd_X21_state (Nat.le_of_ble_eq_true rfl) hd1 (okX21_state l E A (d - 1)  (by omega)  e17 am) rfl ?_
        refine hr_goto hC 77 dX21_doDo_64 (by decide) ?_
        obtain rfl := Option.some.inj h
        exact hr_sub _ rfl (J5)
    · rw [if_pos c8] at h
      refine hr_aload_n hC dX21_doDo_34 rfl ?_
      refine hr_iconst (v := 2) hC dX21_doDo_35 rfl ?_
      obtain ⟨r20, e21, h⟩ := hx_bind h
      refine hs_callV0 hC 23 [_] _ dX21_doDo_36 q3611 q3613 qs287 q335 q3614 np_X21 rfl OB_23 pd_X21_state (Nat.le_of_ble_eq_true rfl) hd1 (okX21_state l E A (d - 1)  (by omega)  e21 am) rfl ?_
      refine hr_aload_n hC dX21_doDo_39 rfl ?_
      refine hr_aload_n hC dX21_doDo_40 rfl ?_
      refine hr_gA hC F23_21 rfl dX21_doDo_41 q2863 ?_
      refine hr_iload_n hC dX21_doDo_44 rfl ?_
      obtain ⟨c24, h⟩ := hk_ok h
      refine hs_iald hC A23_21 c24 dX21_doDo_45 ?_
      obtain ⟨r25, e26, h⟩ := hx_bind h
      refine hs_callV0 hC 23 [_] _ dX21_doDo_46 q3595 q3597 qs283 q335 q3598 np_X21 rfl OB_23 pd_X21_push (Nat.le_of_ble_eq_true rfl) hd1 (okX21_push l E A (d - 1)  (by omega)  e26 am) rfl ?_
      refine hr_goto hC 77 dX21_doDo_49 (by decide) ?_
      obtain rfl := Option.some.inj h
      exact hr_sub _ rfl (J5)
  · rw [if_pos c2] at h
    refine hr_aload_n hC dX21_doDo_4 rfl ?_
    obtain ⟨r29, e30, h⟩ := hx_bind h
    refine hs_callV0 hC 23 [] _ dX21_doDo_5 q3583 q3585 qs280 q335 q3586 np_X21 rfl OB_23 pd_X21_takesWork (Nat.le_of_ble_eq_true rfl) hd1 (okX21_takesWork l E A (d - 1)  (by omega)  e30 am) rfl ?_
    refine hr_if_eq (x := _) hC 77 dX21_doDo_8 (by decide) (fun c34 => ?_) (fun c34 => ?_)
    · rw [if_pos c34] at h
      obtain rfl := Option.some.inj h
      exact hr_sub _ rfl (J5)
    · rw [if_neg c34] at h
      refine hr_aload_n hC dX21_doDo_11 rfl ?_
      refine hr_iconst (v := 1) hC dX21_doDo_12 rfl ?_
      obtain ⟨r35, e36, h⟩ := hx_bind h
      refine hs_callV0 hC 23 [_] _ dX21_doDo_13 q3611 q3613 qs287 q335 q3614 np_X21 rfl OB_23 pd_X21_state (Nat.le_of_ble_eq_true rfl) hd1 (okX21_state l E A (d - 1)  (by omega)  e36 am) rfl ?_
      refine hr_aload_n hC dX21_doDo_16 rfl ?_
      refine hr_aload_n hC dX21_doDo_17 rfl ?_
      refine hr_gA hC F23_22 rfl dX21_doDo_18 q2864 ?_
      refine hr_iload_n hC dX21_doDo_21 rfl ?_
      obtain ⟨c39, h⟩ := hk_ok h
      refine hs_iald hC A23_22 c39 dX21_doDo_22 ?_
      obtain ⟨r40, e41, h⟩ := hx_bind h
      refine hs_callV0 hC 23 [_] _ dX21_doDo_23 q3595 q3597 qs283 q335 q3598 np_X21 rfl OB_23 pd_X21_push (Nat.le_of_ble_eq_true rfl) hd1 (okX21_push l E A (d - 1)  (by omega)  e41 am) rfl ?_
      refine hr_goto hC 77 dX21_doDo_26 (by decide) ?_
      obtain rfl := Option.some.inj h
      exact hr_sub _ rfl (J5)
/-- HomeCompilerModel.doFor(II)V -/
def fm_X21_doFor  (x1 : Int32) (x2 : Int32) (σ : hc_St) : Option hc_St := Option.bind (α := hc_St) (if x2 = 0 then (Option.bind (fm_X21_state 1 σ) fun r75 => hk (inb x1 (gL r75 23 21)) <| if (gC r75 23 21 x1) < 0 then (some (r75)) else (hk (inb x1 (gL r75 23 21)) <| Option.bind (fm_X21_push ((gC r75 23 21 x1)) r75) fun r83 => some (r83))) else (if x2 = 1 then (Option.bind (fm_X21_state 2 σ) fun r59 => hk (inb x1 (gL r59 23 22)) <| if (gC r59 23 22 x1) < 0 then (Option.bind (fm_X21_give 1 r59) fun r66 => some (r66)) else (hk (inb x1 (gL r59 23 22)) <| Option.bind (fm_X21_push ((gC r59 23 22 x1)) r59) fun r71 => some (r71))) else (if x2 = 2 then (Option.bind (fm_X21_take_2  σ) fun r37 => if r37.1 = 0 then (hl (pI r37.2 23 69 ((((gI r37.2 23 69)) - 1))) fun σ58 => some (σ58)) else (Option.bind (fm_X21_takesWork  r37.2) fun r43 => if r43.1 = 0 then (some (r43.2)) else (Option.bind (fm_X21_state 3 r43.2) fun r49 => hk (inb x1 (gL r49 23 24)) <| Option.bind (fm_X21_push ((gC r49 23 24 x1)) r49) fun r54 => some (r54)))) else (if x2 = 3 then (Option.bind (fm_X21_state 4 σ) fun r21 => hk (inb x1 (gL r21 23 23)) <| if (gC r21 23 23 x1) < 0 then (Option.bind (fm_X21_give 0 r21) fun r28 => some (r28)) else (hk (inb x1 (gL r21 23 23)) <| Option.bind (fm_X21_push ((gC r21 23 23 x1)) r21) fun r33 => some (r33))) else (Option.bind (fm_X21_take_2  σ) fun r13 => Option.bind (fm_X21_state 1 r13.2) fun r17 => some (r17)))))) fun r3 => some r3
set_option maxRecDepth 20000 in
set_option maxHeartbeats 4000000 in
theorem okX21_doFor (l : Launch) (E : hc_E) (A : Nat → Prop) (d : Nat)  (hD : 3 ≤ d) {x1 : Int32} {x2 : Int32} {σ : hc_St} {r : hc_St} (h : fm_X21_doFor  x1 x2 σ = some r) (am : Nat → Nat → Nat) : hc_M l hc_V0 yX21_doFor (ws_ yX21_doFor cX21_doFor 3 none) d E A [.ref (E.2.1 23), .int x1, .int x2] am [] σ (.inl none) r := by
  have hd1 : 1 ≤ d := by omega
  refine hc_enter2 (own := RX21) [(0, .ref (E.2.1 23)), (1, .int x1), (2, .int x2)] pl_X21 rfl hc_V0_st hc_G0_nd rfl (Nat.le_of_ble_eq_true rfl) (fun X hC hem => ?_)
  unfold fm_X21_doFor at h
  refine hr_iload_n hC dX21_doFor_0 rfl ?_
  obtain ⟨r3, e4, h⟩ := hx_bind h
  have J5 : hc_At hc_V0 E 3 X 171 [] [] r3 am [] := by
    obtain rfl := Option.some.inj h
    exact hr_vret hC dX21_doFor_171
  clear h
  have h := e4
  refine hr_if_ne (x := _) hC 31 dX21_doFor_1 (by decide) (fun c2 => ?_) (fun c2 => ?_)
  · rw [if_neg c2] at h
    refine hr_iload_n hC dX21_doFor_31 rfl ?_
    refine hr_iconst (v := 1) hC dX21_doFor_32 rfl ?_
    refine hr_icmp_ne (x := _) hC 71 dX21_doFor_33 (by decide) (fun c8 => ?_) (fun c8 => ?_)
    · rw [if_neg c8] at h
      refine hr_iload_n hC dX21_doFor_71 rfl ?_
      refine hr_iconst (v := 2) hC dX21_doFor_72 rfl ?_
      refine hr_icmp_ne (x := _) hC 121 dX21_doFor_73 (by decide) (fun c10 => ?_) (fun c10 => ?_)
      · rw [if_neg c10] at h
        refine hr_iload_n hC dX21_doFor_121 rfl ?_
        refine hr_iconst (v := 3) hC dX21_doFor_122 rfl ?_
        refine hr_icmp_ne (x := _) hC 161 dX21_doFor_123 (by decide) (fun c12 => ?_) (fun c12 => ?_)
        · rw [if_neg c12] at h
          refine hr_aload_n hC dX21_doFor_161 rfl ?_
          obtain ⟨r13, e14, h⟩ := hx_bind h
          refine hs_callV0 hC 23 [] _ dX21_doFor_162 q3615 q3617 qs288 q335 q3618 np_X21 rfl OB_23 pd_X21_take_2 (Nat.le_of_ble_eq_true rfl) hd1 (okX21_take_2 l E A (d - 1)  (by omega)  e14 am) rfl ?_
          refine hr_pop hC dX21_doFor_165 rfl ?_
          refine hr_aload_n hC dX21_doFor_166 rfl ?_
          refine hr_iconst (v := 1) hC dX21_doFor_167 rfl ?_
          obtain ⟨r17, e18, h⟩ := hx_bind h
          refine hs_callV0 hC 23 [_] _ dX21_doFor_168 q3611 q3613 qs287 q335 q3614 np_X21 rfl OB_23 pd_X21_state (Nat.le_of_ble_eq_true rfl) hd1 (okX21_state l E A (d - 1)  (by omega)  e18 am) rfl ?_
          obtain rfl := Option.some.inj h
          exact hr_sub _ rfl (J5)
        · rw [if_pos c12] at h
          refine hr_aload_n hC dX21_doFor_126 rfl ?_
          refine hr_iconst (v := 4) hC dX21_doFor_127 rfl ?_
          obtain ⟨r21, e22, h⟩ := hx_bind h
          refine hs_callV0 hC 23 [_] _ dX21_doFor_128 q3611 q3613 qs287 q335 q3614 np_X21 rfl OB_23 pd_X21_state (Nat.le_of_ble_eq_true rfl) hd1 (okX21_state l E A (d - 1)  (by omega)  e22 am) rfl ?_
          refine hr_aload_n hC dX21_doFor_131 rfl ?_
          refine hr_gA hC F23_23 rfl dX21_doFor_132 q2865 ?_
          refine hr_iload_n hC dX21_doFor_135 rfl ?_
          obtain ⟨c25, h⟩ := hk_ok h
          refine hs_iald hC A23_23 c25 dX21_doFor_136 ?_
          refine hr_if_lt (x := _) hC 153 dX21_doFor_137 (by decide) (fun c27 => ?_) (fun c27 => ?_)
          · rw [if_pos c27] at h
            refine hr_aload_n hC dX21_doFor_153 rfl ?_
            refine hr_iconst (v := 0) hC dX21_doFor_154 rfl ?_
            obtain ⟨r28, e29, h⟩ := hx_bind h
            refine hs_callV0 hC 23 [_] _ dX21_doFor_155 q3571 q3573 qs277 q335 q3574 np_X21 rfl OB_23 pd_X21_give (Nat.le_of_ble_eq_true rfl) hd1 (okX21_give l E A (d - 1)  (by omega)  e29 am) rfl ?_
            refine hr_goto hC 171 dX21_doFor_158 (by decide) ?_
            obtain rfl := Option.some.inj h
            exact hr_sub _ rfl (J5)
          · rw [if_neg c27] at h
            refine hr_aload_n hC dX21_doFor_140 rfl ?_
            refine hr_aload_n hC dX21_doFor_141 rfl ?_
            refine hr_gA hC F23_23 rfl dX21_doFor_142 q2865 ?_
            refine hr_iload_n hC dX21_doFor_145 rfl ?_
            obtain ⟨c32, h⟩ := hk_ok h
            refine hs_iald hC A23_23 c32 dX21_doFor_146 ?_
            obtain ⟨r33, e34, h⟩ := hx_bind h
            refine hs_callV0 hC 23 [_] _ dX21_doFor_147 q3595 q3597 qs283 q335 q3598 np_X21 rfl OB_23 pd_X21_push (Nat.le_of_ble_eq_true rfl) hd1 (okX21_push l E A (d - 1)  (by omega)  e34 am) rfl ?_
            refine hr_goto hC 171 dX21_doFor_150 (by decide) ?_
            obtain rfl := Option.some.inj h
            exact hr_sub _ rfl (J5)
      · rw [if_pos c10] at h
        refine hr_aload_n hC dX21_doFor_76 rfl ?_
        obtain ⟨r37, e38, h⟩ := hx_bind h
        refine hs_callV0 hC 23 [] _ dX21_doFor_77 q3615 q3617 qs288 q335 q3618 np_X21 rfl OB_23 pd_X21_take_2 (Nat.le_of_ble_eq_true rfl) hd1 (okX21_take_2 l E A (d - 1)  (by omega)  e38 am) rfl ?_
        refine hr_if_ne (x := _) hC 96 dX21_doFor_80 (by decide) (fun c42 => ?_) (fun c42 => ?_)
        · rw [if_neg c42] at h
          refine hr_aload_n hC dX21_doFor_96 rfl ?_
          obtain ⟨r43, e44, h⟩ := hx_bind h
          refine hs_callV0 hC 23 [] _ dX21_doFor_97 q3583 q3585 qs280 q335 q3586 np_X21 rfl OB_23 pd_X21_takesWork (Nat.le_of_ble_eq_true rfl) hd1 (okX21_takesWork l E A (d - 1)  (by omega)  e44 am) rfl ?_
          refine hr_if_eq (x := _) hC 171 dX21_doFor_100 (by decide) (fun c48 => ?_) (fun c48 => ?_)
          · rw [if_pos c48] at h
            obtain rfl := Option.some.inj h
            exact hr_sub _ rfl (J5)
          · rw [if_neg c48] at h
            refine hr_aload_n hC dX21_doFor_103 rfl ?_
            refine hr_iconst (v := 3) hC dX21_doFor_104 rfl ?_
            obtain ⟨r49, e50, h⟩ := hx_bind h
            refine hs_callV0 hC 23 [_] _ dX21_doFor_105 q3611 q3613 qs287 q335 q3614 np_X21 rfl OB_23 pd_X21_state (Nat.le_of_ble_eq_true rfl) hd1 (okX21_state l E A (d - 1)  (by omega)  e50 am) rfl ?_
            refine hr_aload_n hC dX21_doFor_108 rfl ?_
            refine hr_aload_n hC dX21_doFor_109 rfl ?_
            refine hr_gA hC F23_24 rfl dX21_doFor_110 q2866 ?_
            refine hr_iload_n hC dX21_doFor_113 rfl ?_
            obtain ⟨c53, h⟩ := hk_ok h
            refine hs_iald hC A23_24 c53 dX21_doFor_114 ?_
            obtain ⟨r54, e55, h⟩ := hx_bind h
            refine hs_callV0 hC 23 [_] _ dX21_doFor_115 q3595 q3597 qs283 q335 q3598 np_X21 rfl OB_23 pd_X21_push (Nat.le_of_ble_eq_true rfl) hd1 (okX21_push l E A (d - 1)  (by omega)  e55 am) rfl ?_
            refine hr_goto hC 171 dX21_doFor_118 (by decide) ?_
            obtain rfl := Option.some.inj h
            exact hr_sub _ rfl (J5)
        · rw [if_pos c42] at h
          refine hr_aload_n hC dX21_doFor_83 rfl ?_
          refine hr_dup hC dX21_doFor_84 rfl ?_
          refine hr_gI hC F23_69 dX21_doFor_85 q2910 ?_
          refine hr_iconst (v := 1) hC dX21_doFor_88 rfl ?_
          refine hr_isub hC dX21_doFor_89 ?_
          obtain ⟨σ58, hσ58, h⟩ := hl_ok h
          refine hr_pI hC F23_69 PX21_69 dX21_doFor_90 q2910 ?_
          rw [← hσ58]
          refine hr_goto hC 171 dX21_doFor_93 (by decide) ?_
          obtain rfl := Option.some.inj h
          exact hr_sub _ rfl (J5)
    · rw [if_pos c8] at h
      refine hr_aload_n hC dX21_doFor_36 rfl ?_
      refine hr_iconst (v := 2) hC dX21_doFor_37 rfl ?_
      obtain ⟨r59, e60, h⟩ := hx_bind h
      refine hs_callV0 hC 23 [_] _ dX21_doFor_38 q3611 q3613 qs287 q335 q3614 np_X21 rfl OB_23 pd_X21_state (Nat.le_of_ble_eq_true rfl) hd1 (okX21_state l E A (d - 1)  (by omega)  e60 am) rfl ?_
      refine hr_aload_n hC dX21_doFor_41 rfl ?_
      refine hr_gA hC F23_22 rfl dX21_doFor_42 q2864 ?_
      refine hr_iload_n hC dX21_doFor_45 rfl ?_
      obtain ⟨c63, h⟩ := hk_ok h
      refine hs_iald hC A23_22 c63 dX21_doFor_46 ?_
      refine hr_if_lt (x := _) hC 63 dX21_doFor_47 (by decide) (fun c65 => ?_) (fun c65 => ?_)
      · rw [if_pos c65] at h
        refine hr_aload_n hC dX21_doFor_63 rfl ?_
        refine hr_iconst (v := 1) hC dX21_doFor_64 rfl ?_
        obtain ⟨r66, e67, h⟩ := hx_bind h
        refine hs_callV0 hC 23 [_] _ dX21_doFor_65 q3571 q3573 qs277 q335 q3574 np_X21 rfl OB_23 pd_X21_give (Nat.le_of_ble_eq_true rfl) hd1 (okX21_give l E A (d - 1)  (by omega)  e67 am) rfl ?_
        refine hr_goto hC 171 dX21_doFor_68 (by decide) ?_
        obtain rfl := Option.some.inj h
        exact hr_sub _ rfl (J5)
      · rw [if_neg c65] at h
        refine hr_aload_n hC dX21_doFor_50 rfl ?_
        refine hr_aload_n hC dX21_doFor_51 rfl ?_
        refine hr_gA hC F23_22 rfl dX21_doFor_52 q2864 ?_
        refine hr_iload_n hC dX21_doFor_55 rfl ?_
        obtain ⟨c70, h⟩ := hk_ok h
        refine hs_iald hC A23_22 c70 dX21_doFor_56 ?_
        obtain ⟨r71, e72, h⟩ := hx_bind h
        refine hs_callV0 hC 23 [_] _ dX21_doFor_57 q3595 q3597 qs283 q335 q3598 np_X21 rfl OB_23 pd_X21_push (Nat.le_of_ble_eq_true rfl) hd1 (okX21_push l E A (d - 1)  (by omega)  e72 am) rfl ?_
        refine hr_goto hC 171 dX21_doFor_60 (by decide) ?_
        obtain rfl := Option.some.inj h
        exact hr_sub _ rfl (J5)
  · rw [if_pos c2] at h
    refine hr_aload_n hC dX21_doFor_4 rfl ?_
    refine hr_iconst (v := 1) hC dX21_doFor_5 rfl ?_
    obtain ⟨r75, e76, h⟩ := hx_bind h
    refine hs_callV0 hC 23 [_] _ dX21_doFor_6 q3611 q3613 qs287 q335 q3614 np_X21 rfl OB_23 pd_X21_state (Nat.le_of_ble_eq_true rfl) hd1 (okX21_state l E A (d - 1)  (by omega)  e76 am) rfl ?_
    refine hr_aload_n hC dX21_doFor_9 rfl ?_
    refine hr_gA hC F23_21 rfl dX21_doFor_10 q2863 ?_
    refine hr_iload_n hC dX21_doFor_13 rfl ?_
    obtain ⟨c79, h⟩ := hk_ok h
    refine hs_iald hC A23_21 c79 dX21_doFor_14 ?_
    refine hr_if_lt (x := _) hC 171 dX21_doFor_15 (by decide) (fun c81 => ?_) (fun c81 => ?_)
    · rw [if_pos c81] at h
      obtain rfl := Option.some.inj h
      exact hr_sub _ rfl (J5)
    · rw [if_neg c81] at h
      refine hr_aload_n hC dX21_doFor_18 rfl ?_
      refine hr_aload_n hC dX21_doFor_19 rfl ?_
      refine hr_gA hC F23_21 rfl dX21_doFor_20 q2863 ?_
      refine hr_iload_n hC dX21_doFor_23 rfl ?_
      obtain ⟨c82, h⟩ := hk_ok h
      refine hs_iald hC A23_21 c82 dX21_doFor_24 ?_
      obtain ⟨r83, e84, h⟩ := hx_bind h
      refine hs_callV0 hC 23 [_] _ dX21_doFor_25 q3595 q3597 qs283 q335 q3598 np_X21 rfl OB_23 pd_X21_push (Nat.le_of_ble_eq_true rfl) hd1 (okX21_push l E A (d - 1)  (by omega)  e84 am) rfl ?_
      refine hr_goto hC 171 dX21_doFor_28 (by decide) ?_
      obtain rfl := Option.some.inj h
      exact hr_sub _ rfl (J5)
def lp_X21_doSwitch_56 (n : Nat) : Nat → Int32 → Int32 → Int32 → Int32 → hc_St → Option (Int32 × Int32)
  | 0, _, _, _, _, _ => none
  | m + 1, y3, y4, y5, y6, σ => if y6 < 0 then (some (y4, y5)) else (hk (inb y6 (gL σ 23 18)) <| Option.bind (α := Int32) (if (gC σ 23 18 y6).toInt8.toInt32 = 29 then (hk (inb y6 (gL σ 23 22)) <| if (gC σ 23 22 y6) = y3 then (some (y6)) else (some (y4))) else (some (y4))) fun r15 => hk (inb y6 (gL σ 23 18)) <| hl (α := Int32) ((if (gC σ 23 18 y6).toInt8.toInt32 = 30 then y6 else y5)) fun v25 => hk (inb y6 (gL σ 23 25)) <| lp_X21_doSwitch_56 n m y3 r15 v25 ((gC σ 23 25 y6)) σ)
/-- HomeCompilerModel.doSwitch(II)V -/
def fm_X21_doSwitch (n : Nat) (x1 : Int32) (x2 : Int32) (σ : hc_St) : Option hc_St := if x2 = 0 then (Option.bind (fm_X21_state ((-1)) σ) fun r50 => hk (inb x1 (gL r50 23 21)) <| Option.bind (fm_X21_push ((gC r50 23 21 x1)) r50) fun r55 => some r55) else (if x2 ≤ 0 then (Option.bind (fm_X21_take_2  σ) fun r5 => hk (inb x1 (gL r5.2 23 22)) <| Option.bind (lp_X21_doSwitch_56 n n r5.1 ((-1)) ((-1)) ((gC r5.2 23 22 x1)) r5.2) fun r30 => hl (α := Int32) ((if r30.1 < 0 then r30.2 else r30.1)) fun v37 => Option.bind (fm_X21_doRow v37 r5.2) fun r38 => some r38) else (hk (inb ((x2 - 1)) (gL σ 23 25)) <| Option.bind (fm_X21_doRow ((gC σ 23 25 ((x2 - 1)))) σ) fun r46 => some r46))
set_option maxRecDepth 20000 in
set_option maxHeartbeats 4000000 in
theorem ll_X21_doSwitch_56 {l : Launch} {E : hc_E} {A : Nat → Prop} {am : Nat → Nat → Nat} {d : Nat} {X : hc_X} (n : Nat) (hD : 3 ≤ d) (hem : X.2.2.2.2.2.2.2.2.2.1.exceptionTable.isEmpty = true) {oc : hc_Oc} {σe : hc_St} (hC : hc_C hc_V0 E cX21_doSwitch 7 RX21 none d oc σe (l, A, am, []) X) : ∀ (m : Nat) (σ : hc_St) (y3 : Int32) (y4 : Int32) (y5 : Int32) (y6 : Int32) (rl : Int32 × Int32) (am1 : Nat → Nat → Nat), lp_X21_doSwitch_56 n m y3 y4 y5 y6 σ = some rl → (hc_At hc_V0 E 7 X 126 [(0, .ref (E.2.1 23)), (4, .int rl.1), (5, .int rl.2)] [] σ am1 []) → hc_At hc_V0 E 7 X 56 [(0, .ref (E.2.1 23)), (3, .int y3), (4, .int y4), (5, .int y5), (6, .int y6)] [] σ am1 [] := by
  have hd1 : 1 ≤ d := by omega
  intro m
  induction m with
  | zero =>
    intro σ y3 y4 y5 y6 rl am1 h
    cases h
  | succ m ih =>
    intro σ y3 y4 y5 y6 rl am1 h JX
    rw [lp_X21_doSwitch_56] at h
    refine hr_iload hC dX21_doSwitch_56 rfl ?_
    refine hr_if_lt (x := _) hC 126 dX21_doSwitch_58 (by decide) (fun c11 => ?_) (fun c11 => ?_)
    · rw [if_pos c11] at h
      obtain rfl := Option.some.inj h
      exact hr_sub _ rfl (JX)
    · rw [if_neg c11] at h
      refine hr_aload_n hC dX21_doSwitch_61 rfl ?_
      refine hr_gA hC F23_18 rfl dX21_doSwitch_62 q2860 ?_
      refine hr_iload hC dX21_doSwitch_65 rfl ?_
      obtain ⟨c12, h⟩ := hk_ok h
      refine hs_bald hC A23_18 c12 dX21_doSwitch_67 ?_
      refine hr_bipush (v := 29) hC dX21_doSwitch_68 rfl ?_
      obtain ⟨r15, e16, h⟩ := hx_bind h
      have J17 : hc_At hc_V0 E 7 X 91 [(0, .ref (E.2.1 23)), (3, .int y3), (5, .int y5), (6, .int y6)] [.int r15] σ am1 [] := by
        refine hr_istore hC dX21_doSwitch_91 (by decide) ?_
        refine hr_aload_n hC dX21_doSwitch_93 rfl ?_
        refine hr_gA hC F23_18 rfl dX21_doSwitch_94 q2860 ?_
        refine hr_iload hC dX21_doSwitch_97 rfl ?_
        obtain ⟨c22, h⟩ := hk_ok h
        refine hs_bald hC A23_18 c22 dX21_doSwitch_99 ?_
        refine hr_bipush (v := 30) hC dX21_doSwitch_100 rfl ?_
        obtain ⟨v25, hv25, h⟩ := hl_ok h
        have J27 : ∀ w28 : Int32, (if (gC σ 23 18 y6).toInt8.toInt32 = 30 then y6 else y5) = w28 → hc_At hc_V0 E 7 X 112 [(0, .ref (E.2.1 23)), (3, .int y3), (4, .int r15), (6, .int y6)] [.int w28] σ am1 [] := by
          intro w28 hw28
          obtain rfl := hv25.trans hw28
          refine hr_istore hC dX21_doSwitch_112 (by decide) ?_
          refine hr_aload_n hC dX21_doSwitch_114 rfl ?_
          refine hr_gA hC F23_25 rfl dX21_doSwitch_115 q2867 ?_
          refine hr_iload hC dX21_doSwitch_118 rfl ?_
          obtain ⟨c26, h⟩ := hk_ok h
          refine hs_iald hC A23_25 c26 dX21_doSwitch_120 ?_
          refine hr_istore hC dX21_doSwitch_121 (by decide) ?_
          refine hr_goto hC 56 dX21_doSwitch_123 (by decide) ?_
          exact hr_sub _ rfl (ih _ _ _ _ _ _ am1 h JX)
        refine hr_icmp_ne (x := _) hC 110 dX21_doSwitch_102 (by decide) (fun c29 => ?_) (fun c29 => ?_)
        · refine hr_iload hC dX21_doSwitch_110 rfl ?_
          exact hr_sub _ rfl (J27 _ (by first | (rw [if_neg c29]; done) | (simp only [if_neg c29]; done) | rfl))
        · refine hr_iload hC dX21_doSwitch_105 rfl ?_
          refine hr_goto hC 112 dX21_doSwitch_107 (by decide) ?_
          exact hr_sub _ rfl (J27 _ (by first | (rw [if_pos c29]; done) | (simp only [if_pos c29]; done) | rfl))
      clear h
      have h := e16
      refine hr_icmp_ne (x := _) hC 89 dX21_doSwitch_70 (by decide) (fun c14 => ?_) (fun c14 => ?_)
      · rw [if_neg c14] at h
        refine hr_iload hC dX21_doSwitch_89 rfl ?_
        obtain rfl := Option.some.inj h
        exact hr_sub _ rfl (J17)
      · rw [if_pos c14] at h
        refine hr_aload_n hC dX21_doSwitch_73 rfl ?_
        refine hr_gA hC F23_22 rfl dX21_doSwitch_74 q2864 ?_
        refine hr_iload hC dX21_doSwitch_77 rfl ?_
        obtain ⟨c19, h⟩ := hk_ok h
        refine hs_iald hC A23_22 c19 dX21_doSwitch_79 ?_
        refine hr_iload_n hC dX21_doSwitch_80 rfl ?_
        refine hr_icmp_ne (x := _) hC 89 dX21_doSwitch_81 (by decide) (fun c21 => ?_) (fun c21 => ?_)
        · rw [if_neg c21] at h
          refine hr_iload hC dX21_doSwitch_89 rfl ?_
          obtain rfl := Option.some.inj h
          exact hr_sub _ rfl (J17)
        · rw [if_pos c21] at h
          refine hr_iload hC dX21_doSwitch_84 rfl ?_
          refine hr_goto hC 91 dX21_doSwitch_86 (by decide) ?_
          obtain rfl := Option.some.inj h
          exact hr_sub _ rfl (J17)
set_option maxRecDepth 20000 in
set_option maxHeartbeats 4000000 in
theorem okX21_doSwitch (l : Launch) (E : hc_E) (A : Nat → Prop) (d : Nat) (n : Nat) (hD : 3 ≤ d) {x1 : Int32} {x2 : Int32} {σ : hc_St} {r : hc_St} (h : fm_X21_doSwitch n x1 x2 σ = some r) (am : Nat → Nat → Nat) : hc_M l hc_V0 yX21_doSwitch (ws_ yX21_doSwitch cX21_doSwitch 7 none) d E A [.ref (E.2.1 23), .int x1, .int x2] am [] σ (.inl none) r := by
  have hd1 : 1 ≤ d := by omega
  refine hc_enter2 (own := RX21) [(0, .ref (E.2.1 23)), (1, .int x1), (2, .int x2)] pl_X21 rfl hc_V0_st hc_G0_nd rfl (Nat.le_of_ble_eq_true rfl) (fun X hC hem => ?_)
  unfold fm_X21_doSwitch at h
  refine hr_iload_n hC dX21_doSwitch_0 rfl ?_
  refine hr_if_ne (x := _) hC 20 dX21_doSwitch_1 (by decide) (fun c2 => ?_) (fun c2 => ?_)
  · rw [if_neg c2] at h
    refine hr_iload_n hC dX21_doSwitch_20 rfl ?_
    refine hr_if_le (x := _) hC 37 dX21_doSwitch_21 (by decide) (fun c4 => ?_) (fun c4 => ?_)
    · rw [if_pos c4] at h
      refine hr_aload_n hC dX21_doSwitch_37 rfl ?_
      obtain ⟨r5, e6, h⟩ := hx_bind h
      refine hs_callV0 hC 23 [] _ dX21_doSwitch_38 q3615 q3617 qs288 q335 q3618 np_X21 rfl OB_23 pd_X21_take_2 (Nat.le_of_ble_eq_true rfl) hd1 (okX21_take_2 l E A (d - 1)  (by omega)  e6 am) rfl ?_
      refine hr_istore_n hC dX21_doSwitch_41 (by decide) ?_
      refine hr_iconst (v := (-1)) hC dX21_doSwitch_42 rfl ?_
      refine hr_istore hC dX21_doSwitch_43 (by decide) ?_
      refine hr_iconst (v := (-1)) hC dX21_doSwitch_45 rfl ?_
      refine hr_istore hC dX21_doSwitch_46 (by decide) ?_
      refine hr_aload_n hC dX21_doSwitch_48 rfl ?_
      refine hr_gA hC F23_22 rfl dX21_doSwitch_49 q2864 ?_
      refine hr_iload_n hC dX21_doSwitch_52 rfl ?_
      obtain ⟨c9, h⟩ := hk_ok h
      refine hs_iald hC A23_22 c9 dX21_doSwitch_53 ?_
      refine hr_istore hC dX21_doSwitch_54 (by decide) ?_
      obtain ⟨r30, e31, h⟩ := hx_bind h
      refine hr_sub _ rfl (ll_X21_doSwitch_56 n hD hem hC n _ _ _ _ _ _ am e31 ?_)
      refine hr_aload_n hC dX21_doSwitch_126 rfl ?_
      refine hr_iload hC dX21_doSwitch_127 rfl ?_
      obtain ⟨v37, hv37, h⟩ := hl_ok h
      have J42 : ∀ w43 : Int32, (if r30.1 < 0 then r30.2 else r30.1) = w43 → hc_At hc_V0 E 7 X 139 [] [.int w43, .ref (E.2.1 23)] r5.2 am [] := by
        intro w43 hw43
        obtain rfl := hv37.trans hw43
        obtain ⟨r38, e39, h⟩ := hx_bind h
        refine hs_callV0 hC 23 [_] _ dX21_doSwitch_139 q3607 q3609 qs286 q335 q3610 np_X21 rfl OB_23 pd_X21_doRow (Nat.le_of_ble_eq_true rfl) hd1 (okX21_doRow l E A (d - 1)  (by omega)  e39 am) rfl ?_
        obtain rfl := Option.some.inj h
        exact hr_vret hC dX21_doSwitch_142
      refine hr_if_lt (x := _) hC 137 dX21_doSwitch_129 (by decide) (fun c44 => ?_) (fun c44 => ?_)
      · refine hr_iload hC dX21_doSwitch_137 rfl ?_
        exact hr_sub _ rfl (J42 _ (by first | (rw [if_pos c44]; done) | (simp only [if_pos c44]; done) | rfl))
      · refine hr_iload hC dX21_doSwitch_132 rfl ?_
        refine hr_goto hC 139 dX21_doSwitch_134 (by decide) ?_
        exact hr_sub _ rfl (J42 _ (by first | (rw [if_neg c44]; done) | (simp only [if_neg c44]; done) | rfl))
    · rw [if_neg c4] at h
      refine hr_aload_n hC dX21_doSwitch_24 rfl ?_
      refine hr_aload_n hC dX21_doSwitch_25 rfl ?_
      refine hr_gA hC F23_25 rfl dX21_doSwitch_26 q2867 ?_
      refine hr_iload_n hC dX21_doSwitch_29 rfl ?_
      refine hr_iconst (v := 1) hC dX21_doSwitch_30 rfl ?_
      refine hr_isub hC dX21_doSwitch_31 ?_
      obtain ⟨c45, h⟩ := hk_ok h
      refine hs_iald hC A23_25 c45 dX21_doSwitch_32 ?_
      obtain ⟨r46, e47, h⟩ := hx_bind h
      refine hs_callV0 hC 23 [_] _ dX21_doSwitch_33 q3607 q3609 qs286 q335 q3610 np_X21 rfl OB_23 pd_X21_doRow (Nat.le_of_ble_eq_true rfl) hd1 (okX21_doRow l E A (d - 1)  (by omega)  e47 am) rfl ?_
      obtain rfl := Option.some.inj h
      exact hr_vret hC dX21_doSwitch_36
  · rw [if_pos c2] at h
    refine hr_aload_n hC dX21_doSwitch_4 rfl ?_
    refine hr_iconst (v := (-1)) hC dX21_doSwitch_5 rfl ?_
    obtain ⟨r50, e51, h⟩ := hx_bind h
    refine hs_callV0 hC 23 [_] _ dX21_doSwitch_6 q3611 q3613 qs287 q335 q3614 np_X21 rfl OB_23 pd_X21_state (Nat.le_of_ble_eq_true rfl) hd1 (okX21_state l E A (d - 1)  (by omega)  e51 am) rfl ?_
    refine hr_aload_n hC dX21_doSwitch_9 rfl ?_
    refine hr_aload_n hC dX21_doSwitch_10 rfl ?_
    refine hr_gA hC F23_21 rfl dX21_doSwitch_11 q2863 ?_
    refine hr_iload_n hC dX21_doSwitch_14 rfl ?_
    obtain ⟨c54, h⟩ := hk_ok h
    refine hs_iald hC A23_21 c54 dX21_doSwitch_15 ?_
    obtain ⟨r55, e56, h⟩ := hx_bind h
    refine hs_callV0 hC 23 [_] _ dX21_doSwitch_16 q3595 q3597 qs283 q335 q3598 np_X21 rfl OB_23 pd_X21_push (Nat.le_of_ble_eq_true rfl) hd1 (okX21_push l E A (d - 1)  (by omega)  e56 am) rfl ?_
    obtain rfl := Option.some.inj h
    exact hr_vret hC dX21_doSwitch_19
/-- HomeCompilerModel.isLoop(I)Z -/
def fm_X21_isLoop  (x1 : Int32) (σ : hc_St) : Option Int32 := hl (α := Int32) ((if x1 = 25 then 1 else (if x1 = 26 then 1 else (if x1 = 27 then 1 else 0)))) fun v3 => hk (hb01 v3) <| some v3
set_option maxRecDepth 20000 in
set_option maxHeartbeats 4000000 in
theorem okX21_isLoop (l : Launch) (E : hc_E) (A : Nat → Prop) (d : Nat)  (hD : 1 ≤ d) {x1 : Int32} {σ : hc_St} {r : Int32} (h : fm_X21_isLoop  x1 σ = some r) (am : Nat → Nat → Nat) : hc_M l hc_V0 yX21_isLoop (ws_ yX21_isLoop cX21_isLoop 2 (some .boolean)) d E A [.ref (E.2.1 23), .int x1] am [] σ (.inl (some (.int r))) σ := by
  have hd1 : 1 ≤ d := by omega
  refine hc_enter2 (own := RX21) [(0, .ref (E.2.1 23)), (1, .int x1)] pl_X21 rfl hc_V0_st hc_G0_nd rfl (Nat.le_of_ble_eq_true rfl) (fun X hC hem => ?_)
  unfold fm_X21_isLoop at h
  refine hr_iload_n hC dX21_isLoop_0 rfl ?_
  refine hr_bipush (v := 25) hC dX21_isLoop_1 rfl ?_
  obtain ⟨v3, hv3, h⟩ := hl_ok h
  have J5 : ∀ w6 : Int32, (if x1 = 25 then 1 else (if x1 = 26 then 1 else (if x1 = 27 then 1 else 0))) = w6 → hc_At hc_V0 E 2 X 23 [] [.int w6] σ am [] := by
    intro w6 hw6
    obtain rfl := hv3.trans hw6
    obtain ⟨c4, h⟩ := hk_ok h
    obtain rfl := Option.some.inj h
    exact hr_zret hC (hb01_n c4) dX21_isLoop_23
  refine hr_icmp_eq (x := _) hC 18 dX21_isLoop_3 (by decide) (fun c7 => ?_) (fun c7 => ?_)
  · refine hr_iconst (v := 1) hC dX21_isLoop_18 rfl ?_
    refine hr_goto hC 23 dX21_isLoop_19 (by decide) ?_
    exact hr_sub _ rfl (J5 _ (by first | (rw [if_pos c7]; done) | (simp only [if_pos c7]; done) | rfl))
  · refine hr_iload_n hC dX21_isLoop_6 rfl ?_
    refine hr_bipush (v := 26) hC dX21_isLoop_7 rfl ?_
    refine hr_icmp_eq (x := _) hC 18 dX21_isLoop_9 (by decide) (fun c8 => ?_) (fun c8 => ?_)
    · refine hr_iconst (v := 1) hC dX21_isLoop_18 rfl ?_
      refine hr_goto hC 23 dX21_isLoop_19 (by decide) ?_
      exact hr_sub _ rfl (J5 _ (by first | (rw [if_neg c7, if_pos c8]; done) | (simp only [if_neg c7, if_pos c8]; done) | rfl))
    · refine hr_iload_n hC dX21_isLoop_12 rfl ?_
      refine hr_bipush (v := 27) hC dX21_isLoop_13 rfl ?_
      refine hr_icmp_ne (x := _) hC 22 dX21_isLoop_15 (by decide) (fun c9 => ?_) (fun c9 => ?_)
      · refine hr_iconst (v := 0) hC dX21_isLoop_22 rfl ?_
        exact hr_sub _ rfl (J5 _ (by first | (rw [if_neg c7, if_neg c8, if_neg c9]; done) | (simp only [if_neg c7, if_neg c8, if_neg c9]; done) | rfl))
      · refine hr_iconst (v := 1) hC dX21_isLoop_18 rfl ?_
        refine hr_goto hC 23 dX21_isLoop_19 (by decide) ?_
        exact hr_sub _ rfl (J5 _ (by first | (rw [if_neg c7, if_neg c8, if_pos c9]; done) | (simp only [if_neg c7, if_neg c8, if_pos c9]; done) | rfl))
def lp_X21_doBreak_10 (n : Nat) : Nat → hc_St → Option (hc_St)
  | 0, _ => none
  | m + 1, σ => hk (inb ((((gI σ 23 69)) - 1)) (gL σ 23 70)) <| hk (inb ((gC σ 23 70 ((((gI σ 23 69)) - 1)))) (gL σ 23 18)) <| Option.bind (fm_X21_isLoop ((gC σ 23 18 ((gC σ 23 70 ((((gI σ 23 69)) - 1))))).toInt8.toInt32) σ) fun r4 => if r4 = 0 then (hk (inb ((((gI σ 23 69)) - 1)) (gL σ 23 70)) <| hk (inb ((gC σ 23 70 ((((gI σ 23 69)) - 1)))) (gL σ 23 18)) <| if (gC σ 23 18 ((gC σ 23 70 ((((gI σ 23 69)) - 1))))).toInt8.toInt32 = 28 then (some (σ)) else (hl (pI σ 23 69 ((((gI σ 23 69)) - 1))) fun σ14 => lp_X21_doBreak_10 n m  σ14)) else (some (σ))
/-- HomeCompilerModel.doBreak()V -/
def fm_X21_doBreak (n : Nat)  (σ : hc_St) : Option hc_St := hl (pI σ 23 69 ((((gI σ 23 69)) - 1))) fun σ1 => Option.bind (lp_X21_doBreak_10 n n  σ1) fun r15 => hl (pI r15 23 69 ((((gI r15 23 69)) - 1))) fun σ20 => some σ20
set_option maxRecDepth 20000 in
set_option maxHeartbeats 4000000 in
theorem ll_X21_doBreak_10 {l : Launch} {E : hc_E} {A : Nat → Prop} {am : Nat → Nat → Nat} {d : Nat} {X : hc_X} (n : Nat) (hD : 2 ≤ d) (hem : X.2.2.2.2.2.2.2.2.2.1.exceptionTable.isEmpty = true) {oc : hc_Oc} {σe : hc_St} (hC : hc_C hc_V0 E cX21_doBreak 1 RX21 none d oc σe (l, A, am, []) X) : ∀ (m : Nat) (σ : hc_St)  (rl : hc_St) (am1 : Nat → Nat → Nat), lp_X21_doBreak_10 n m  σ = some rl → (hc_At hc_V0 E 1 X 67 [(0, .ref (E.2.1 23))] [] rl am1 []) → hc_At hc_V0 E 1 X 10 [(0, .ref (E.2.1 23))] [] σ am1 [] := by
  have hd1 : 1 ≤ d := by omega
  intro m
  induction m with
  | zero =>
    intro σ  rl am1 h
    cases h
  | succ m ih =>
    intro σ  rl am1 h JX
    rw [lp_X21_doBreak_10] at h
    refine hr_aload_n hC dX21_doBreak_10 rfl ?_
    refine hr_aload_n hC dX21_doBreak_11 rfl ?_
    refine hr_gA hC F23_18 rfl dX21_doBreak_12 q2860 ?_
    refine hr_aload_n hC dX21_doBreak_15 rfl ?_
    refine hr_gA hC F23_70 rfl dX21_doBreak_16 q2911 ?_
    refine hr_aload_n hC dX21_doBreak_19 rfl ?_
    refine hr_gI hC F23_69 dX21_doBreak_20 q2910 ?_
    refine hr_iconst (v := 1) hC dX21_doBreak_23 rfl ?_
    refine hr_isub hC dX21_doBreak_24 ?_
    obtain ⟨c2, h⟩ := hk_ok h
    refine hs_iald hC A23_70 c2 dX21_doBreak_25 ?_
    obtain ⟨c3, h⟩ := hk_ok h
    refine hs_bald hC A23_18 c3 dX21_doBreak_26 ?_
    obtain ⟨r4, e5, h⟩ := hx_bind h
    refine hs_callV0 hC 23 [_] _ dX21_doBreak_27 q3639 q3641 qs294 q335 q3642 np_X21 rfl OB_23 pd_X21_isLoop (Nat.le_of_ble_eq_true rfl) hd1 (okX21_isLoop l E A (d - 1)  (by omega)  e5 am1) rfl ?_
    refine hr_if_ne (x := _) hC 67 dX21_doBreak_30 (by decide) (fun c9 => ?_) (fun c9 => ?_)
    · rw [if_neg c9] at h
      obtain rfl := Option.some.inj h
      exact hr_sub _ rfl (JX)
    · rw [if_pos c9] at h
      refine hr_aload_n hC dX21_doBreak_33 rfl ?_
      refine hr_gA hC F23_18 rfl dX21_doBreak_34 q2860 ?_
      refine hr_aload_n hC dX21_doBreak_37 rfl ?_
      refine hr_gA hC F23_70 rfl dX21_doBreak_38 q2911 ?_
      refine hr_aload_n hC dX21_doBreak_41 rfl ?_
      refine hr_gI hC F23_69 dX21_doBreak_42 q2910 ?_
      refine hr_iconst (v := 1) hC dX21_doBreak_45 rfl ?_
      refine hr_isub hC dX21_doBreak_46 ?_
      obtain ⟨c10, h⟩ := hk_ok h
      refine hs_iald hC A23_70 c10 dX21_doBreak_47 ?_
      obtain ⟨c11, h⟩ := hk_ok h
      refine hs_bald hC A23_18 c11 dX21_doBreak_48 ?_
      refine hr_bipush (v := 28) hC dX21_doBreak_49 rfl ?_
      refine hr_icmp_eq (x := _) hC 67 dX21_doBreak_51 (by decide) (fun c13 => ?_) (fun c13 => ?_)
      · rw [if_pos c13] at h
        obtain rfl := Option.some.inj h
        exact hr_sub _ rfl (JX)
      · rw [if_neg c13] at h
        refine hr_aload_n hC dX21_doBreak_54 rfl ?_
        refine hr_dup hC dX21_doBreak_55 rfl ?_
        refine hr_gI hC F23_69 dX21_doBreak_56 q2910 ?_
        refine hr_iconst (v := 1) hC dX21_doBreak_59 rfl ?_
        refine hr_isub hC dX21_doBreak_60 ?_
        obtain ⟨σ14, hσ14, h⟩ := hl_ok h
        refine hr_pI hC F23_69 PX21_69 dX21_doBreak_61 q2910 ?_
        rw [← hσ14]
        refine hr_goto hC 10 dX21_doBreak_64 (by decide) ?_
        exact hr_sub _ rfl (ih _  _ am1 h JX)
set_option maxRecDepth 20000 in
set_option maxHeartbeats 4000000 in
theorem okX21_doBreak (l : Launch) (E : hc_E) (A : Nat → Prop) (d : Nat) (n : Nat) (hD : 2 ≤ d)  {σ : hc_St} {r : hc_St} (h : fm_X21_doBreak n  σ = some r) (am : Nat → Nat → Nat) : hc_M l hc_V0 yX21_doBreak (ws_ yX21_doBreak cX21_doBreak 1 none) d E A [.ref (E.2.1 23)] am [] σ (.inl none) r := by
  have hd1 : 1 ≤ d := by omega
  refine hc_enter2 (own := RX21) [(0, .ref (E.2.1 23))] pl_X21 rfl hc_V0_st hc_G0_nd rfl (Nat.le_of_ble_eq_true rfl) (fun X hC hem => ?_)
  unfold fm_X21_doBreak at h
  refine hr_aload_n hC dX21_doBreak_0 rfl ?_
  refine hr_dup hC dX21_doBreak_1 rfl ?_
  refine hr_gI hC F23_69 dX21_doBreak_2 q2910 ?_
  refine hr_iconst (v := 1) hC dX21_doBreak_5 rfl ?_
  refine hr_isub hC dX21_doBreak_6 ?_
  obtain ⟨σ1, hσ1, h⟩ := hl_ok h
  refine hr_pI hC F23_69 PX21_69 dX21_doBreak_7 q2910 ?_
  rw [← hσ1]
  obtain ⟨r15, e16, h⟩ := hx_bind h
  refine hr_sub _ rfl (ll_X21_doBreak_10 n hD hem hC n _  _ am e16 ?_)
  refine hr_aload_n hC dX21_doBreak_67 rfl ?_
  refine hr_dup hC dX21_doBreak_68 rfl ?_
  refine hr_gI hC F23_69 dX21_doBreak_69 q2910 ?_
  refine hr_iconst (v := 1) hC dX21_doBreak_72 rfl ?_
  refine hr_isub hC dX21_doBreak_73 ?_
  obtain ⟨σ20, hσ20, h⟩ := hl_ok h
  refine hr_pI hC F23_69 PX21_69 dX21_doBreak_74 q2910 ?_
  rw [← hσ20]
  obtain rfl := Option.some.inj h
  exact hr_vret hC dX21_doBreak_77
def lp_X21_doContinue_10 (n : Nat) : Nat → hc_St → Option (hc_St)
  | 0, _ => none
  | m + 1, σ => hk (inb ((((gI σ 23 69)) - 1)) (gL σ 23 70)) <| hk (inb ((gC σ 23 70 ((((gI σ 23 69)) - 1)))) (gL σ 23 18)) <| Option.bind (fm_X21_isLoop ((gC σ 23 18 ((gC σ 23 70 ((((gI σ 23 69)) - 1))))).toInt8.toInt32) σ) fun r4 => if r4 = 0 then (hl (pI σ 23 69 ((((gI σ 23 69)) - 1))) fun σ10 => lp_X21_doContinue_10 n m  σ10) else (some (σ))
/-- HomeCompilerModel.doContinue()V -/
def fm_X21_doContinue (n : Nat)  (σ : hc_St) : Option hc_St := hl (pI σ 23 69 ((((gI σ 23 69)) - 1))) fun σ1 => Option.bind (lp_X21_doContinue_10 n n  σ1) fun r11 => hk (inb ((((gI r11 23 69)) - 1)) (gL r11 23 70)) <| hk (inb ((gC r11 23 70 ((((gI r11 23 69)) - 1)))) (gL r11 23 18)) <| hl (α := Int32) ((gC r11 23 18 ((gC r11 23 70 ((((gI r11 23 69)) - 1))))).toInt8.toInt32) fun v18 => hl (α := Int32) ((if v18 = 25 then 0 else (if v18 = 26 then 1 else 3))) fun v21 => Option.bind (fm_X21_state v21 r11) fun r22 => some r22
set_option maxRecDepth 20000 in
set_option maxHeartbeats 4000000 in
theorem ll_X21_doContinue_10 {l : Launch} {E : hc_E} {A : Nat → Prop} {am : Nat → Nat → Nat} {d : Nat} {X : hc_X} (n : Nat) (hD : 2 ≤ d) (hem : X.2.2.2.2.2.2.2.2.2.1.exceptionTable.isEmpty = true) {oc : hc_Oc} {σe : hc_St} (hC : hc_C hc_V0 E cX21_doContinue 2 RX21 none d oc σe (l, A, am, []) X) : ∀ (m : Nat) (σ : hc_St)  (rl : hc_St) (am1 : Nat → Nat → Nat), lp_X21_doContinue_10 n m  σ = some rl → (hc_At hc_V0 E 2 X 46 [(0, .ref (E.2.1 23))] [] rl am1 []) → hc_At hc_V0 E 2 X 10 [(0, .ref (E.2.1 23))] [] σ am1 [] := by
  have hd1 : 1 ≤ d := by omega
  intro m
  induction m with
  | zero =>
    intro σ  rl am1 h
    cases h
  | succ m ih =>
    intro σ  rl am1 h JX
    rw [lp_X21_doContinue_10] at h
    refine hr_aload_n hC dX21_doContinue_10 rfl ?_
    refine hr_aload_n hC dX21_doContinue_11 rfl ?_
    refine hr_gA hC F23_18 rfl dX21_doContinue_12 q2860 ?_
    refine hr_aload_n hC dX21_doContinue_15 rfl ?_
    refine hr_gA hC F23_70 rfl dX21_doContinue_16 q2911 ?_
    refine hr_aload_n hC dX21_doContinue_19 rfl ?_
    refine hr_gI hC F23_69 dX21_doContinue_20 q2910 ?_
    refine hr_iconst (v := 1) hC dX21_doContinue_23 rfl ?_
    refine hr_isub hC dX21_doContinue_24 ?_
    obtain ⟨c2, h⟩ := hk_ok h
    refine hs_iald hC A23_70 c2 dX21_doContinue_25 ?_
    obtain ⟨c3, h⟩ := hk_ok h
    refine hs_bald hC A23_18 c3 dX21_doContinue_26 ?_
    obtain ⟨r4, e5, h⟩ := hx_bind h
    refine hs_callV0 hC 23 [_] _ dX21_doContinue_27 q3639 q3641 qs294 q335 q3642 np_X21 rfl OB_23 pd_X21_isLoop (Nat.le_of_ble_eq_true rfl) hd1 (okX21_isLoop l E A (d - 1)  (by omega)  e5 am1) rfl ?_
    refine hr_if_ne (x := _) hC 46 dX21_doContinue_30 (by decide) (fun c9 => ?_) (fun c9 => ?_)
    · rw [if_neg c9] at h
      obtain rfl := Option.some.inj h
      exact hr_sub _ rfl (JX)
    · rw [if_pos c9] at h
      refine hr_aload_n hC dX21_doContinue_33 rfl ?_
      refine hr_dup hC dX21_doContinue_34 rfl ?_
      refine hr_gI hC F23_69 dX21_doContinue_35 q2910 ?_
      refine hr_iconst (v := 1) hC dX21_doContinue_38 rfl ?_
      refine hr_isub hC dX21_doContinue_39 ?_
      obtain ⟨σ10, hσ10, h⟩ := hl_ok h
      refine hr_pI hC F23_69 PX21_69 dX21_doContinue_40 q2910 ?_
      rw [← hσ10]
      refine hr_goto hC 10 dX21_doContinue_43 (by decide) ?_
      exact hr_sub _ rfl (ih _  _ am1 h JX)
set_option maxRecDepth 20000 in
set_option maxHeartbeats 4000000 in
theorem okX21_doContinue (l : Launch) (E : hc_E) (A : Nat → Prop) (d : Nat) (n : Nat) (hD : 2 ≤ d)  {σ : hc_St} {r : hc_St} (h : fm_X21_doContinue n  σ = some r) (am : Nat → Nat → Nat) : hc_M l hc_V0 yX21_doContinue (ws_ yX21_doContinue cX21_doContinue 2 none) d E A [.ref (E.2.1 23)] am [] σ (.inl none) r := by
  have hd1 : 1 ≤ d := by omega
  refine hc_enter2 (own := RX21) [(0, .ref (E.2.1 23))] pl_X21 rfl hc_V0_st hc_G0_nd rfl (Nat.le_of_ble_eq_true rfl) (fun X hC hem => ?_)
  unfold fm_X21_doContinue at h
  refine hr_aload_n hC dX21_doContinue_0 rfl ?_
  refine hr_dup hC dX21_doContinue_1 rfl ?_
  refine hr_gI hC F23_69 dX21_doContinue_2 q2910 ?_
  refine hr_iconst (v := 1) hC dX21_doContinue_5 rfl ?_
  refine hr_isub hC dX21_doContinue_6 ?_
  obtain ⟨σ1, hσ1, h⟩ := hl_ok h
  refine hr_pI hC F23_69 PX21_69 dX21_doContinue_7 q2910 ?_
  rw [← hσ1]
  obtain ⟨r11, e12, h⟩ := hx_bind h
  refine hr_sub _ rfl (ll_X21_doContinue_10 n hD hem hC n _  _ am e12 ?_)
  refine hr_aload_n hC dX21_doContinue_46 rfl ?_
  refine hr_gA hC F23_18 rfl dX21_doContinue_47 q2860 ?_
  refine hr_aload_n hC dX21_doContinue_50 rfl ?_
  refine hr_gA hC F23_70 rfl dX21_doContinue_51 q2911 ?_
  refine hr_aload_n hC dX21_doContinue_54 rfl ?_
  refine hr_gI hC F23_69 dX21_doContinue_55 q2910 ?_
  refine hr_iconst (v := 1) hC dX21_doContinue_58 rfl ?_
  refine hr_isub hC dX21_doContinue_59 ?_
  obtain ⟨c16, h⟩ := hk_ok h
  refine hs_iald hC A23_70 c16 dX21_doContinue_60 ?_
  obtain ⟨c17, h⟩ := hk_ok h
  refine hs_bald hC A23_18 c17 dX21_doContinue_61 ?_
  obtain ⟨v18, hv18, h⟩ := hl_ok h
  refine hr_istore_n hC dX21_doContinue_62 (by decide) ?_
  rw [← hv18]
  refine hr_aload_n hC dX21_doContinue_63 rfl ?_
  refine hr_iload_n hC dX21_doContinue_64 rfl ?_
  refine hr_bipush (v := 25) hC dX21_doContinue_65 rfl ?_
  obtain ⟨v21, hv21, h⟩ := hl_ok h
  have J26 : ∀ w27 : Int32, (if v18 = 25 then 0 else (if v18 = 26 then 1 else 3)) = w27 → hc_At hc_V0 E 2 X 85 [] [.int w27, .ref (E.2.1 23)] r11 am [] := by
    intro w27 hw27
    obtain rfl := hv21.trans hw27
    obtain ⟨r22, e23, h⟩ := hx_bind h
    refine hs_callV0 hC 23 [_] _ dX21_doContinue_85 q3611 q3613 qs287 q335 q3614 np_X21 rfl OB_23 pd_X21_state (Nat.le_of_ble_eq_true rfl) hd1 (okX21_state l E A (d - 1)  (by omega)  e23 am) rfl ?_
    obtain rfl := Option.some.inj h
    exact hr_vret hC dX21_doContinue_88
  refine hr_icmp_ne (x := _) hC 74 dX21_doContinue_67 (by decide) (fun c28 => ?_) (fun c28 => ?_)
  · refine hr_iload_n hC dX21_doContinue_74 rfl ?_
    refine hr_bipush (v := 26) hC dX21_doContinue_75 rfl ?_
    refine hr_icmp_ne (x := _) hC 84 dX21_doContinue_77 (by decide) (fun c29 => ?_) (fun c29 => ?_)
    · refine hr_iconst (v := 3) hC dX21_doContinue_84 rfl ?_
      exact hr_sub _ rfl (J26 _ (by first | (rw [if_neg c28, if_neg c29]; done) | (simp only [if_neg c28, if_neg c29]; done) | rfl))
    · refine hr_iconst (v := 1) hC dX21_doContinue_80 rfl ?_
      refine hr_goto hC 85 dX21_doContinue_81 (by decide) ?_
      exact hr_sub _ rfl (J26 _ (by first | (rw [if_neg c28, if_pos c29]; done) | (simp only [if_neg c28, if_pos c29]; done) | rfl))
  · refine hr_iconst (v := 0) hC dX21_doContinue_70 rfl ?_
    refine hr_goto hC 85 dX21_doContinue_71 (by decide) ?_
    exact hr_sub _ rfl (J26 _ (by first | (rw [if_pos c28]; done) | (simp only [if_pos c28]; done) | rfl))
def lp_X21_leaveCall_0 (n : Nat) : Nat → Int32 → hc_St → Option (hc_St)
  | 0, _, _ => none
  | m + 1, y1, σ => hk (inb ((((gI σ 23 69)) - 1)) (gL σ 23 70)) <| hk (inb ((gC σ 23 70 ((((gI σ 23 69)) - 1)))) (gL σ 23 18)) <| if (gC σ 23 18 ((gC σ 23 70 ((((gI σ 23 69)) - 1))))).toInt8.toInt32 = 41 then (some (σ)) else (hl (pI σ 23 69 ((((gI σ 23 69)) - 1))) fun σ5 => lp_X21_leaveCall_0 n m y1 σ5)
/-- HomeCompilerModel.leaveCall(I)V -/
def fm_X21_leaveCall (n : Nat) (x1 : Int32) (σ : hc_St) : Option hc_St := Option.bind (lp_X21_leaveCall_0 n n x1 σ) fun r6 => hk (inb ((((gI r6 23 69)) - 1)) (gL r6 23 70)) <| hk (inb ((((gI r6 23 69)) - 1)) (gL r6 23 71)) <| hl (pI r6 23 69 ((((gI r6 23 69)) - 1))) fun σ13 => hl (pI σ13 23 74 ((((gI σ13 23 74)) - 1))) fun σ14 => hk (inb ((((gC r6 23 71 ((((gI r6 23 69)) - 1)))) - 1)) (gL σ14 23 45)) <| hl (pI σ14 23 80 ((((gI σ14 23 80)) + ((gC σ14 23 45 ((((gC r6 23 71 ((((gI r6 23 69)) - 1)))) - 1))))))) fun σ16 => hk (inb ((gI σ16 23 74)) (gL σ16 23 75)) <| hl (pI σ16 23 67 ((gC σ16 23 75 ((gI σ16 23 74))))) fun σ18 => hk (inb ((gI σ18 23 74)) (gL σ18 23 76)) <| hl (pI σ18 23 68 ((gC σ18 23 76 ((gI σ18 23 74))))) fun σ20 => hk (inb ((gC r6 23 70 ((((gI r6 23 69)) - 1)))) (gL σ20 23 26)) <| hl (α := Int32) ((if (gC σ20 23 26 ((gC r6 23 70 ((((gI r6 23 69)) - 1))))) = 1 then (x1 &&& 255) else x1)) fun v24 => Option.bind (fm_X21_give v24 σ20) fun r25 => some r25
set_option maxRecDepth 20000 in
set_option maxHeartbeats 4000000 in
theorem ll_X21_leaveCall_0 {l : Launch} {E : hc_E} {A : Nat → Prop} {am : Nat → Nat → Nat} {d : Nat} {X : hc_X} (n : Nat) (hD : 2 ≤ d) (hem : X.2.2.2.2.2.2.2.2.2.1.exceptionTable.isEmpty = true) {oc : hc_Oc} {σe : hc_St} (hC : hc_C hc_V0 E cX21_leaveCall 4 RX21 none d oc σe (l, A, am, []) X) : ∀ (m : Nat) (σ : hc_St) (y1 : Int32) (rl : hc_St) (am1 : Nat → Nat → Nat), lp_X21_leaveCall_0 n m y1 σ = some rl → (hc_At hc_V0 E 4 X 34 [(0, .ref (E.2.1 23)), (1, .int y1)] [] rl am1 []) → hc_At hc_V0 E 4 X 0 [(0, .ref (E.2.1 23)), (1, .int y1)] [] σ am1 [] := by
  have hd1 : 1 ≤ d := by omega
  intro m
  induction m with
  | zero =>
    intro σ y1 rl am1 h
    cases h
  | succ m ih =>
    intro σ y1 rl am1 h JX
    rw [lp_X21_leaveCall_0] at h
    refine hr_aload_n hC dX21_leaveCall_0 rfl ?_
    refine hr_gA hC F23_18 rfl dX21_leaveCall_1 q2860 ?_
    refine hr_aload_n hC dX21_leaveCall_4 rfl ?_
    refine hr_gA hC F23_70 rfl dX21_leaveCall_5 q2911 ?_
    refine hr_aload_n hC dX21_leaveCall_8 rfl ?_
    refine hr_gI hC F23_69 dX21_leaveCall_9 q2910 ?_
    refine hr_iconst (v := 1) hC dX21_leaveCall_12 rfl ?_
    refine hr_isub hC dX21_leaveCall_13 ?_
    obtain ⟨c1, h⟩ := hk_ok h
    refine hs_iald hC A23_70 c1 dX21_leaveCall_14 ?_
    obtain ⟨c2, h⟩ := hk_ok h
    refine hs_bald hC A23_18 c2 dX21_leaveCall_15 ?_
    refine hr_bipush (v := 41) hC dX21_leaveCall_16 rfl ?_
    refine hr_icmp_eq (x := _) hC 34 dX21_leaveCall_18 (by decide) (fun c4 => ?_) (fun c4 => ?_)
    · rw [if_pos c4] at h
      obtain rfl := Option.some.inj h
      exact hr_sub _ rfl (JX)
    · rw [if_neg c4] at h
      refine hr_aload_n hC dX21_leaveCall_21 rfl ?_
      refine hr_dup hC dX21_leaveCall_22 rfl ?_
      refine hr_gI hC F23_69 dX21_leaveCall_23 q2910 ?_
      refine hr_iconst (v := 1) hC dX21_leaveCall_26 rfl ?_
      refine hr_isub hC dX21_leaveCall_27 ?_
      obtain ⟨σ5, hσ5, h⟩ := hl_ok h
      refine hr_pI hC F23_69 PX21_69 dX21_leaveCall_28 q2910 ?_
      rw [← hσ5]
      refine hr_goto hC 0 dX21_leaveCall_31 (by decide) ?_
      exact hr_sub _ rfl (ih _ _ _ am1 h JX)
set_option maxRecDepth 20000 in
set_option maxHeartbeats 4000000 in
theorem okX21_leaveCall (l : Launch) (E : hc_E) (A : Nat → Prop) (d : Nat) (n : Nat) (hD : 2 ≤ d) {x1 : Int32} {σ : hc_St} {r : hc_St} (h : fm_X21_leaveCall n x1 σ = some r) (am : Nat → Nat → Nat) : hc_M l hc_V0 yX21_leaveCall (ws_ yX21_leaveCall cX21_leaveCall 4 none) d E A [.ref (E.2.1 23), .int x1] am [] σ (.inl none) r := by
  have hd1 : 1 ≤ d := by omega
  refine hc_enter2 (own := RX21) [(0, .ref (E.2.1 23)), (1, .int x1)] pl_X21 rfl hc_V0_st hc_G0_nd rfl (Nat.le_of_ble_eq_true rfl) (fun X hC hem => ?_)
  unfold fm_X21_leaveCall at h
  obtain ⟨r6, e7, h⟩ := hx_bind h
  refine hr_sub _ rfl (ll_X21_leaveCall_0 n hD hem hC n _ _ _ am e7 ?_)
  refine hr_aload_n hC dX21_leaveCall_34 rfl ?_
  refine hr_gA hC F23_70 rfl dX21_leaveCall_35 q2911 ?_
  refine hr_aload_n hC dX21_leaveCall_38 rfl ?_
  refine hr_gI hC F23_69 dX21_leaveCall_39 q2910 ?_
  refine hr_iconst (v := 1) hC dX21_leaveCall_42 rfl ?_
  refine hr_isub hC dX21_leaveCall_43 ?_
  obtain ⟨c11, h⟩ := hk_ok h
  refine hs_iald hC A23_70 c11 dX21_leaveCall_44 ?_
  refine hr_istore_n hC dX21_leaveCall_45 (by decide) ?_
  refine hr_aload_n hC dX21_leaveCall_46 rfl ?_
  refine hr_gA hC F23_71 rfl dX21_leaveCall_47 q2912 ?_
  refine hr_aload_n hC dX21_leaveCall_50 rfl ?_
  refine hr_gI hC F23_69 dX21_leaveCall_51 q2910 ?_
  refine hr_iconst (v := 1) hC dX21_leaveCall_54 rfl ?_
  refine hr_isub hC dX21_leaveCall_55 ?_
  obtain ⟨c12, h⟩ := hk_ok h
  refine hs_iald hC A23_71 c12 dX21_leaveCall_56 ?_
  refine hr_iconst (v := 1) hC dX21_leaveCall_57 rfl ?_
  refine hr_isub hC dX21_leaveCall_58 ?_
  refine hr_istore_n hC dX21_leaveCall_59 (by decide) ?_
  refine hr_aload_n hC dX21_leaveCall_60 rfl ?_
  refine hr_dup hC dX21_leaveCall_61 rfl ?_
  refine hr_gI hC F23_69 dX21_leaveCall_62 q2910 ?_
  refine hr_iconst (v := 1) hC dX21_leaveCall_65 rfl ?_
  refine hr_isub hC dX21_leaveCall_66 ?_
  obtain ⟨σ13, hσ13, h⟩ := hl_ok h
  refine hr_pI hC F23_69 PX21_69 dX21_leaveCall_67 q2910 ?_
  rw [← hσ13]
  refine hr_aload_n hC dX21_leaveCall_70 rfl ?_
  refine hr_dup hC dX21_leaveCall_71 rfl ?_
  refine hr_gI hC F23_74 dX21_leaveCall_72 q2915 ?_
  refine hr_iconst (v := 1) hC dX21_leaveCall_75 rfl ?_
  refine hr_isub hC dX21_leaveCall_76 ?_
  obtain ⟨σ14, hσ14, h⟩ := hl_ok h
  refine hr_pI hC F23_74 PX21_74 dX21_leaveCall_77 q2915 ?_
  rw [← hσ14]
  refine hr_aload_n hC dX21_leaveCall_80 rfl ?_
  refine hr_aload_n hC dX21_leaveCall_81 rfl ?_
  refine hr_gI hC F23_80 dX21_leaveCall_82 q2921 ?_
  refine hr_aload_n hC dX21_leaveCall_85 rfl ?_
  refine hr_gA hC F23_45 rfl dX21_leaveCall_86 q2886 ?_
  refine hr_iload_n hC dX21_leaveCall_89 rfl ?_
  obtain ⟨c15, h⟩ := hk_ok h
  refine hs_iald hC A23_45 c15 dX21_leaveCall_90 ?_
  refine hr_iadd hC dX21_leaveCall_91 ?_
  obtain ⟨σ16, hσ16, h⟩ := hl_ok h
  refine hr_pI hC F23_80 PX21_80 dX21_leaveCall_92 q2921 ?_
  rw [← hσ16]
  refine hr_aload_n hC dX21_leaveCall_95 rfl ?_
  refine hr_aload_n hC dX21_leaveCall_96 rfl ?_
  refine hr_gA hC F23_75 rfl dX21_leaveCall_97 q2916 ?_
  refine hr_aload_n hC dX21_leaveCall_100 rfl ?_
  refine hr_gI hC F23_74 dX21_leaveCall_101 q2915 ?_
  obtain ⟨c17, h⟩ := hk_ok h
  refine hs_iald hC A23_75 c17 dX21_leaveCall_104 ?_
  obtain ⟨σ18, hσ18, h⟩ := hl_ok h
  refine hr_pI hC F23_67 PX21_67 dX21_leaveCall_105 q2908 ?_
  rw [← hσ18]
  refine hr_aload_n hC dX21_leaveCall_108 rfl ?_
  refine hr_aload_n hC dX21_leaveCall_109 rfl ?_
  refine hr_gA hC F23_76 rfl dX21_leaveCall_110 q2917 ?_
  refine hr_aload_n hC dX21_leaveCall_113 rfl ?_
  refine hr_gI hC F23_74 dX21_leaveCall_114 q2915 ?_
  obtain ⟨c19, h⟩ := hk_ok h
  refine hs_iald hC A23_76 c19 dX21_leaveCall_117 ?_
  obtain ⟨σ20, hσ20, h⟩ := hl_ok h
  refine hr_pI hC F23_68 PX21_68 dX21_leaveCall_118 q2909 ?_
  rw [← hσ20]
  refine hr_aload_n hC dX21_leaveCall_121 rfl ?_
  refine hr_aload_n hC dX21_leaveCall_122 rfl ?_
  refine hr_gA hC F23_26 rfl dX21_leaveCall_123 q2868 ?_
  refine hr_iload_n hC dX21_leaveCall_126 rfl ?_
  obtain ⟨c21, h⟩ := hk_ok h
  refine hs_iald hC A23_26 c21 dX21_leaveCall_127 ?_
  refine hr_iconst (v := 1) hC dX21_leaveCall_128 rfl ?_
  obtain ⟨v24, hv24, h⟩ := hl_ok h
  have J29 : ∀ w30 : Int32, (if (gC σ20 23 26 ((gC r6 23 70 ((((gI r6 23 69)) - 1))))) = 1 then (x1 &&& 255) else x1) = w30 → hc_At hc_V0 E 4 X 141 [] [.int w30, .ref (E.2.1 23)] σ20 am [] := by
    intro w30 hw30
    obtain rfl := hv24.trans hw30
    obtain ⟨r25, e26, h⟩ := hx_bind h
    refine hs_callV0 hC 23 [_] _ dX21_leaveCall_141 q3571 q3573 qs277 q335 q3574 np_X21 rfl OB_23 pd_X21_give (Nat.le_of_ble_eq_true rfl) hd1 (okX21_give l E A (d - 1)  (by omega)  e26 am) rfl ?_
    obtain rfl := Option.some.inj h
    exact hr_vret hC dX21_leaveCall_144
  refine hr_icmp_ne (x := _) hC 140 dX21_leaveCall_129 (by decide) (fun c31 => ?_) (fun c31 => ?_)
  · refine hr_iload_n hC dX21_leaveCall_140 rfl ?_
    exact hr_sub _ rfl (J29 _ (by first | (rw [if_neg c31]; done) | (simp only [if_neg c31]; done) | rfl))
  · refine hr_iload_n hC dX21_leaveCall_132 rfl ?_
    refine hr_sipush (v := 255) hC dX21_leaveCall_133 rfl ?_
    refine hr_iand hC dX21_leaveCall_136 ?_
    refine hr_goto hC 141 dX21_leaveCall_137 (by decide) ?_
    exact hr_sub _ rfl (J29 _ (by first | (rw [if_pos c31]; done) | (simp only [if_pos c31]; done) | rfl))
/-- HomeCompilerModel.doStatement(II)V -/
def fm_X21_doStatement (n : Nat) (x1 : Int32) (x2 : Int32) (σ : hc_St) : Option hc_St := hk (inb x1 (gL σ 23 18)) <| Option.bind (α := hc_St) (if (gC σ 23 18 x1).toInt8.toInt32 = 20 then (Option.bind (α := Int32) (if x2 = 0 then (hk (inb x1 (gL σ 23 21)) <| some ((gC σ 23 21 x1))) else (hk (inb ((x2 - 1)) (gL σ 23 25)) <| some ((gC σ 23 25 ((x2 - 1)))))) fun r9 => Option.bind (fm_X21_doRow r9 σ) fun r15 => some (r15)) else if (gC σ 23 18 x1).toInt8.toInt32 = 22 then (if x2 = 0 then (Option.bind (fm_X21_state 1 σ) fun r26 => hk (inb x1 (gL r26 23 21)) <| Option.bind (fm_X21_push ((gC r26 23 21 x1)) r26) fun r31 => some (r31)) else (Option.bind (fm_X21_take_2  σ) fun r21 => hl (pI r21.2 23 69 ((((gI r21.2 23 69)) - 1))) fun σ25 => some (σ25))) else if (gC σ 23 18 x1).toInt8.toInt32 = 23 then (Option.bind (fm_X21_doDeclare n x1 x2 σ) fun r35 => some (r35)) else if (gC σ 23 18 x1).toInt8.toInt32 = 24 then (if x2 = 0 then (Option.bind (fm_X21_state 1 σ) fun r64 => hk (inb x1 (gL r64 23 21)) <| Option.bind (fm_X21_push ((gC r64 23 21 x1)) r64) fun r69 => some (r69)) else (Option.bind (fm_X21_take_2  σ) fun r41 => Option.bind (α := Int32) (if r41.1 = 0 then (hk (inb x1 (gL r41.2 23 23)) <| some ((gC r41.2 23 23 x1))) else (hk (inb x1 (gL r41.2 23 22)) <| some ((gC r41.2 23 22 x1)))) fun r47 => hl (pI r41.2 23 69 ((((gI r41.2 23 69)) - 1))) fun σ53 => Option.bind (α := hc_St) (if r47 < 0 then (some (σ53)) else (Option.bind (fm_X21_push r47 σ53) fun r60 => some (r60))) fun r56 => some (r56))) else if (gC σ 23 18 x1).toInt8.toInt32 = 25 then (if x2 = 0 then (Option.bind (fm_X21_state 1 σ) fun r97 => hk (inb x1 (gL r97 23 21)) <| Option.bind (fm_X21_push ((gC r97 23 21 x1)) r97) fun r102 => some (r102)) else (Option.bind (fm_X21_take_2  σ) fun r75 => if r75.1 = 0 then (hl (pI r75.2 23 69 ((((gI r75.2 23 69)) - 1))) fun σ96 => some (σ96)) else (Option.bind (fm_X21_takesWork  r75.2) fun r81 => if r81.1 = 0 then (some (r81.2)) else (Option.bind (fm_X21_state 0 r81.2) fun r87 => hk (inb x1 (gL r87 23 22)) <| Option.bind (fm_X21_push ((gC r87 23 22 x1)) r87) fun r92 => some (r92))))) else if (gC σ 23 18 x1).toInt8.toInt32 = 26 then (Option.bind (fm_X21_doDo x1 x2 σ) fun r106 => some (r106)) else if (gC σ 23 18 x1).toInt8.toInt32 = 27 then (Option.bind (fm_X21_doFor x1 x2 σ) fun r110 => some (r110)) else if (gC σ 23 18 x1).toInt8.toInt32 = 28 then (Option.bind (fm_X21_doSwitch n x1 x2 σ) fun r114 => some (r114)) else if (gC σ 23 18 x1).toInt8.toInt32 = 31 then (Option.bind (fm_X21_doBreak n σ) fun r118 => some (r118)) else if (gC σ 23 18 x1).toInt8.toInt32 = 32 then (Option.bind (fm_X21_doContinue n σ) fun r122 => some (r122)) else if (gC σ 23 18 x1).toInt8.toInt32 = 33 then (if x2 = 0 then (hk (inb x1 (gL σ 23 21)) <| if (gC σ 23 21 x1) < 0 then (Option.bind (α := hc_St × Int32) (if x2 = 1 then (Option.bind (fm_X21_take_2  σ) fun r151 => some (r151.2, r151.1)) else (some (σ, 0))) fun r147 => Option.bind (fm_X21_leaveCall n r147.2 r147.1) fun r155 => some (r155)) else (Option.bind (fm_X21_state 1 σ) fun r159 => hk (inb x1 (gL r159 23 21)) <| Option.bind (fm_X21_push ((gC r159 23 21 x1)) r159) fun r164 => some (r164))) else (Option.bind (α := hc_St × Int32) (if x2 = 1 then (Option.bind (fm_X21_take_2  σ) fun r134 => some (r134.2, r134.1)) else (some (σ, 0))) fun r130 => Option.bind (fm_X21_leaveCall n r130.2 r130.1) fun r138 => some (r138))) else if (gC σ 23 18 x1).toInt8.toInt32 = 41 then (Option.bind (fm_X21_leaveCall n 0 σ) fun r168 => some (r168)) else (hl (pI σ 23 69 ((((gI σ 23 69)) - 1))) fun σ6 => some (σ6))) fun r2 => some r2
set_option maxRecDepth 20000 in
set_option maxHeartbeats 4000000 in
theorem okX21_doStatement (l : Launch) (E : hc_E) (A : Nat → Prop) (d : Nat) (n : Nat) (hD : 5 ≤ d) {x1 : Int32} {x2 : Int32} {σ : hc_St} {r : hc_St} (h : fm_X21_doStatement n x1 x2 σ = some r) (am : Nat → Nat → Nat) : hc_M l hc_V0 yX21_doStatement (ws_ yX21_doStatement cX21_doStatement 4 none) d E A [.ref (E.2.1 23), .int x1, .int x2] am [] σ (.inl none) r := by
  have hd1 : 1 ≤ d := by omega
  refine hc_enter2 (own := RX21) [(0, .ref (E.2.1 23)), (1, .int x1), (2, .int x2)] pl_X21 rfl hc_V0_st hc_G0_nd rfl (Nat.le_of_ble_eq_true rfl) (fun X hC hem => ?_)
  unfold fm_X21_doStatement at h
  refine hr_aload_n hC dX21_doStatement_0 rfl ?_
  refine hr_gA hC F23_18 rfl dX21_doStatement_1 q2860 ?_
  refine hr_iload_n hC dX21_doStatement_4 rfl ?_
  obtain ⟨c1, h⟩ := hk_ok h
  refine hs_bald hC A23_18 c1 dX21_doStatement_5 ?_
  obtain ⟨r2, e3, h⟩ := hx_bind h
  have J4 : hc_At hc_V0 E 4 X 429 [] [] r2 am [] := by
    obtain rfl := Option.some.inj h
    exact hr_vret hC dX21_doStatement_429
  clear h
  have h := e3
  by_cases c172 : (gC σ 23 18 x1).toInt8.toInt32 = 20
  · rw [if_pos c172] at h
    refine hr_tableIn hC 108 dX21_doStatement_6 (by rw [c172] <;> decide) (by rw [c172] <;> decide) (by rw [c172] <;> rfl) (by decide) ?_
    refine hr_aload_n hC dX21_doStatement_108 rfl ?_
    refine hr_iload_n hC dX21_doStatement_109 rfl ?_
    obtain ⟨r9, e10, h⟩ := hx_bind h
    have J11 : hc_At hc_V0 E 4 X 130 [] [.int r9, .ref (E.2.1 23)] σ am [] := by
      obtain ⟨r15, e16, h⟩ := hx_bind h
      refine hs_callV0 hC 23 [_] _ dX21_doStatement_130 q3607 q3609 qs286 q335 q3610 np_X21 rfl OB_23 pd_X21_doRow (Nat.le_of_ble_eq_true rfl) hd1 (okX21_doRow l E A (d - 1)  (by omega)  e16 am) rfl ?_
      refine hr_goto hC 429 dX21_doStatement_133 (by decide) ?_
      obtain rfl := Option.some.inj h
      exact hr_sub _ rfl (J4)
    clear h
    have h := e10
    refine hr_if_ne (x := _) hC 122 dX21_doStatement_110 (by decide) (fun c8 => ?_) (fun c8 => ?_)
    · rw [if_neg c8] at h
      refine hr_aload_n hC dX21_doStatement_122 rfl ?_
      refine hr_gA hC F23_25 rfl dX21_doStatement_123 q2867 ?_
      refine hr_iload_n hC dX21_doStatement_126 rfl ?_
      refine hr_iconst (v := 1) hC dX21_doStatement_127 rfl ?_
      refine hr_isub hC dX21_doStatement_128 ?_
      obtain ⟨c13, h⟩ := hk_ok h
      refine hs_iald hC A23_25 c13 dX21_doStatement_129 ?_
      obtain rfl := Option.some.inj h
      exact hr_sub _ rfl (J11)
    · rw [if_pos c8] at h
      refine hr_aload_n hC dX21_doStatement_113 rfl ?_
      refine hr_gA hC F23_21 rfl dX21_doStatement_114 q2863 ?_
      refine hr_iload_n hC dX21_doStatement_117 rfl ?_
      obtain ⟨c14, h⟩ := hk_ok h
      refine hs_iald hC A23_21 c14 dX21_doStatement_118 ?_
      refine hr_goto hC 130 dX21_doStatement_119 (by decide) ?_
      obtain rfl := Option.some.inj h
      exact hr_sub _ rfl (J11)
  rw [if_neg c172] at h
  by_cases c173 : (gC σ 23 18 x1).toInt8.toInt32 = 22
  · rw [if_pos c173] at h
    refine hr_tableIn hC 136 dX21_doStatement_6 (by rw [c173] <;> decide) (by rw [c173] <;> decide) (by rw [c173] <;> rfl) (by decide) ?_
    refine hr_iload_n hC dX21_doStatement_136 rfl ?_
    refine hr_if_ne (x := _) hC 158 dX21_doStatement_137 (by decide) (fun c20 => ?_) (fun c20 => ?_)
    · rw [if_neg c20] at h
      refine hr_aload_n hC dX21_doStatement_158 rfl ?_
      obtain ⟨r21, e22, h⟩ := hx_bind h
      refine hs_callV0 hC 23 [] _ dX21_doStatement_159 q3615 q3617 qs288 q335 q3618 np_X21 rfl OB_23 pd_X21_take_2 (Nat.le_of_ble_eq_true rfl) hd1 (okX21_take_2 l E A (d - 1)  (by omega)  e22 am) rfl ?_
      refine hr_pop hC dX21_doStatement_162 rfl ?_
      refine hr_aload_n hC dX21_doStatement_163 rfl ?_
      refine hr_dup hC dX21_doStatement_164 rfl ?_
      refine hr_gI hC F23_69 dX21_doStatement_165 q2910 ?_
      refine hr_iconst (v := 1) hC dX21_doStatement_168 rfl ?_
      refine hr_isub hC dX21_doStatement_169 ?_
      obtain ⟨σ25, hσ25, h⟩ := hl_ok h
      refine hr_pI hC F23_69 PX21_69 dX21_doStatement_170 q2910 ?_
      rw [← hσ25]
      refine hr_goto hC 429 dX21_doStatement_173 (by decide) ?_
      obtain rfl := Option.some.inj h
      exact hr_sub _ rfl (J4)
    · rw [if_pos c20] at h
      refine hr_aload_n hC dX21_doStatement_140 rfl ?_
      refine hr_iconst (v := 1) hC dX21_doStatement_141 rfl ?_
      obtain ⟨r26, e27, h⟩ := hx_bind h
      refine hs_callV0 hC 23 [_] _ dX21_doStatement_142 q3611 q3613 qs287 q335 q3614 np_X21 rfl OB_23 pd_X21_state (Nat.le_of_ble_eq_true rfl) hd1 (okX21_state l E A (d - 1)  (by omega)  e27 am) rfl ?_
      refine hr_aload_n hC dX21_doStatement_145 rfl ?_
      refine hr_aload_n hC dX21_doStatement_146 rfl ?_
      refine hr_gA hC F23_21 rfl dX21_doStatement_147 q2863 ?_
      refine hr_iload_n hC dX21_doStatement_150 rfl ?_
      obtain ⟨c30, h⟩ := hk_ok h
      refine hs_iald hC A23_21 c30 dX21_doStatement_151 ?_
      obtain ⟨r31, e32, h⟩ := hx_bind h
      refine hs_callV0 hC 23 [_] _ dX21_doStatement_152 q3595 q3597 qs283 q335 q3598 np_X21 rfl OB_23 pd_X21_push (Nat.le_of_ble_eq_true rfl) hd1 (okX21_push l E A (d - 1)  (by omega)  e32 am) rfl ?_
      refine hr_goto hC 429 dX21_doStatement_155 (by decide) ?_
      obtain rfl := Option.some.inj h
      exact hr_sub _ rfl (J4)
  rw [if_neg c173] at h
  by_cases c174 : (gC σ 23 18 x1).toInt8.toInt32 = 23
  · rw [if_pos c174] at h
    refine hr_tableIn hC 176 dX21_doStatement_6 (by rw [c174] <;> decide) (by rw [c174] <;> decide) (by rw [c174] <;> rfl) (by decide) ?_
    refine hr_aload_n hC dX21_doStatement_176 rfl ?_
    refine hr_iload_n hC dX21_doStatement_177 rfl ?_
    refine hr_iload_n hC dX21_doStatement_178 rfl ?_
    obtain ⟨r35, e36, h⟩ := hx_bind h
    refine hs_callV0 hC 23 [_, _] _ dX21_doStatement_179 q3619 q3621 qs289 q335 q3622 np_X21 rfl OB_23 pd_X21_doDeclare (Nat.le_of_ble_eq_true rfl) hd1 (okX21_doDeclare l E A (d - 1) n (by omega)  e36 am) rfl ?_
    refine hr_goto hC 429 dX21_doStatement_182 (by decide) ?_
    obtain rfl := Option.some.inj h
    exact hr_sub _ rfl (J4)
  rw [if_neg c174] at h
  by_cases c175 : (gC σ 23 18 x1).toInt8.toInt32 = 24
  · rw [if_pos c175] at h
    refine hr_tableIn hC 185 dX21_doStatement_6 (by rw [c175] <;> decide) (by rw [c175] <;> decide) (by rw [c175] <;> rfl) (by decide) ?_
    refine hr_iload_n hC dX21_doStatement_185 rfl ?_
    refine hr_if_ne (x := _) hC 207 dX21_doStatement_186 (by decide) (fun c40 => ?_) (fun c40 => ?_)
    · rw [if_neg c40] at h
      refine hr_aload_n hC dX21_doStatement_207 rfl ?_
      obtain ⟨r41, e42, h⟩ := hx_bind h
      refine hs_callV0 hC 23 [] _ dX21_doStatement_208 q3615 q3617 qs288 q335 q3618 np_X21 rfl OB_23 pd_X21_take_2 (Nat.le_of_ble_eq_true rfl) hd1 (okX21_take_2 l E A (d - 1)  (by omega)  e42 am) rfl ?_
      obtain ⟨r47, e48, h⟩ := hx_bind h
      have J49 : hc_At hc_V0 E 4 X 229 [(0, .ref (E.2.1 23))] [.int r47] r41.2 am [] := by
        refine hr_istore_n hC dX21_doStatement_229 (by decide) ?_
        refine hr_aload_n hC dX21_doStatement_230 rfl ?_
        refine hr_dup hC dX21_doStatement_231 rfl ?_
        refine hr_gI hC F23_69 dX21_doStatement_232 q2910 ?_
        refine hr_iconst (v := 1) hC dX21_doStatement_235 rfl ?_
        refine hr_isub hC dX21_doStatement_236 ?_
        obtain ⟨σ53, hσ53, h⟩ := hl_ok h
        refine hr_pI hC F23_69 PX21_69 dX21_doStatement_237 q2910 ?_
        rw [← hσ53]
        refine hr_iload_n hC dX21_doStatement_240 rfl ?_
        obtain ⟨r56, e57, h⟩ := hx_bind h
        have J58 : hc_At hc_V0 E 4 X 249 [] [] r56 am [] := by
          refine hr_goto hC 429 dX21_doStatement_249 (by decide) ?_
          obtain rfl := Option.some.inj h
          exact hr_sub _ rfl (J4)
        clear h
        have h := e57
        refine hr_if_lt (x := _) hC 249 dX21_doStatement_241 (by decide) (fun c55 => ?_) (fun c55 => ?_)
        · rw [if_pos c55] at h
          obtain rfl := Option.some.inj h
          exact hr_sub _ rfl (J58)
        · rw [if_neg c55] at h
          refine hr_aload_n hC dX21_doStatement_244 rfl ?_
          refine hr_iload_n hC dX21_doStatement_245 rfl ?_
          obtain ⟨r60, e61, h⟩ := hx_bind h
          refine hs_callV0 hC 23 [_] _ dX21_doStatement_246 q3595 q3597 qs283 q335 q3598 np_X21 rfl OB_23 pd_X21_push (Nat.le_of_ble_eq_true rfl) hd1 (okX21_push l E A (d - 1)  (by omega)  e61 am) rfl ?_
          obtain rfl := Option.some.inj h
          exact hr_sub _ rfl (J58)
      clear h
      have h := e48
      refine hr_if_eq (x := _) hC 223 dX21_doStatement_211 (by decide) (fun c46 => ?_) (fun c46 => ?_)
      · rw [if_pos c46] at h
        refine hr_aload_n hC dX21_doStatement_223 rfl ?_
        refine hr_gA hC F23_23 rfl dX21_doStatement_224 q2865 ?_
        refine hr_iload_n hC dX21_doStatement_227 rfl ?_
        obtain ⟨c51, h⟩ := hk_ok h
        refine hs_iald hC A23_23 c51 dX21_doStatement_228 ?_
        obtain rfl := Option.some.inj h
        exact hr_sub _ rfl (J49)
      · rw [if_neg c46] at h
        refine hr_aload_n hC dX21_doStatement_214 rfl ?_
        refine hr_gA hC F23_22 rfl dX21_doStatement_215 q2864 ?_
        refine hr_iload_n hC dX21_doStatement_218 rfl ?_
        obtain ⟨c52, h⟩ := hk_ok h
        refine hs_iald hC A23_22 c52 dX21_doStatement_219 ?_
        refine hr_goto hC 229 dX21_doStatement_220 (by decide) ?_
        obtain rfl := Option.some.inj h
        exact hr_sub _ rfl (J49)
    · rw [if_pos c40] at h
      refine hr_aload_n hC dX21_doStatement_189 rfl ?_
      refine hr_iconst (v := 1) hC dX21_doStatement_190 rfl ?_
      obtain ⟨r64, e65, h⟩ := hx_bind h
      refine hs_callV0 hC 23 [_] _ dX21_doStatement_191 q3611 q3613 qs287 q335 q3614 np_X21 rfl OB_23 pd_X21_state (Nat.le_of_ble_eq_true rfl) hd1 (okX21_state l E A (d - 1)  (by omega)  e65 am) rfl ?_
      refine hr_aload_n hC dX21_doStatement_194 rfl ?_
      refine hr_aload_n hC dX21_doStatement_195 rfl ?_
      refine hr_gA hC F23_21 rfl dX21_doStatement_196 q2863 ?_
      refine hr_iload_n hC dX21_doStatement_199 rfl ?_
      obtain ⟨c68, h⟩ := hk_ok h
      refine hs_iald hC A23_21 c68 dX21_doStatement_200 ?_
      obtain ⟨r69, e70, h⟩ := hx_bind h
      refine hs_callV0 hC 23 [_] _ dX21_doStatement_201 q3595 q3597 qs283 q335 q3598 np_X21 rfl OB_23 pd_X21_push (Nat.le_of_ble_eq_true rfl) hd1 (okX21_push l E A (d - 1)  (by omega)  e70 am) rfl ?_
      refine hr_goto hC 429 dX21_doStatement_204 (by decide) ?_
      obtain rfl := Option.some.inj h
      exact hr_sub _ rfl (J4)
  rw [if_neg c175] at h
  by_cases c176 : (gC σ 23 18 x1).toInt8.toInt32 = 25
  · rw [if_pos c176] at h
    refine hr_tableIn hC 252 dX21_doStatement_6 (by rw [c176] <;> decide) (by rw [c176] <;> decide) (by rw [c176] <;> rfl) (by decide) ?_
    refine hr_iload_n hC dX21_doStatement_252 rfl ?_
    refine hr_if_ne (x := _) hC 274 dX21_doStatement_253 (by decide) (fun c74 => ?_) (fun c74 => ?_)
    · rw [if_neg c74] at h
      refine hr_aload_n hC dX21_doStatement_274 rfl ?_
      obtain ⟨r75, e76, h⟩ := hx_bind h
      refine hs_callV0 hC 23 [] _ dX21_doStatement_275 q3615 q3617 qs288 q335 q3618 np_X21 rfl OB_23 pd_X21_take_2 (Nat.le_of_ble_eq_true rfl) hd1 (okX21_take_2 l E A (d - 1)  (by omega)  e76 am) rfl ?_
      refine hr_if_ne (x := _) hC 294 dX21_doStatement_278 (by decide) (fun c80 => ?_) (fun c80 => ?_)
      · rw [if_neg c80] at h
        refine hr_aload_n hC dX21_doStatement_294 rfl ?_
        obtain ⟨r81, e82, h⟩ := hx_bind h
        refine hs_callV0 hC 23 [] _ dX21_doStatement_295 q3583 q3585 qs280 q335 q3586 np_X21 rfl OB_23 pd_X21_takesWork (Nat.le_of_ble_eq_true rfl) hd1 (okX21_takesWork l E A (d - 1)  (by omega)  e82 am) rfl ?_
        refine hr_if_eq (x := _) hC 429 dX21_doStatement_298 (by decide) (fun c86 => ?_) (fun c86 => ?_)
        · rw [if_pos c86] at h
          obtain rfl := Option.some.inj h
          exact hr_sub _ rfl (J4)
        · rw [if_neg c86] at h
          refine hr_aload_n hC dX21_doStatement_301 rfl ?_
          refine hr_iconst (v := 0) hC dX21_doStatement_302 rfl ?_
          obtain ⟨r87, e88, h⟩ := hx_bind h
          refine hs_callV0 hC 23 [_] _ dX21_doStatement_303 q3611 q3613 qs287 q335 q3614 np_X21 rfl OB_23 pd_X21_state (Nat.le_of_ble_eq_true rfl) hd1 (okX21_state l E A (d - 1)  (by omega)  e88 am) rfl ?_
          refine hr_aload_n hC dX21_doStatement_306 rfl ?_
          refine hr_aload_n hC dX21_doStatement_307 rfl ?_
          refine hr_gA hC F23_22 rfl dX21_doStatement_308 q2864 ?_
          refine hr_iload_n hC dX21_doStatement_311 rfl ?_
          obtain ⟨c91, h⟩ := hk_ok h
          refine hs_iald hC A23_22 c91 dX21_doStatement_312 ?_
          obtain ⟨r92, e93, h⟩ := hx_bind h
          refine hs_callV0 hC 23 [_] _ dX21_doStatement_313 q3595 q3597 qs283 q335 q3598 np_X21 rfl OB_23 pd_X21_push (Nat.le_of_ble_eq_true rfl) hd1 (okX21_push l E A (d - 1)  (by omega)  e93 am) rfl ?_
          refine hr_goto hC 429 dX21_doStatement_316 (by decide) ?_
          obtain rfl := Option.some.inj h
          exact hr_sub _ rfl (J4)
      · rw [if_pos c80] at h
        refine hr_aload_n hC dX21_doStatement_281 rfl ?_
        refine hr_dup hC dX21_doStatement_282 rfl ?_
        refine hr_gI hC F23_69 dX21_doStatement_283 q2910 ?_
        refine hr_iconst (v := 1) hC dX21_doStatement_286 rfl ?_
        refine hr_isub hC dX21_doStatement_287 ?_
        obtain ⟨σ96, hσ96, h⟩ := hl_ok h
        refine hr_pI hC F23_69 PX21_69 dX21_doStatement_288 q2910 ?_
        rw [← hσ96]
        refine hr_goto hC 429 dX21_doStatement_291 (by decide) ?_
        obtain rfl := Option.some.inj h
        exact hr_sub _ rfl (J4)
    · rw [if_pos c74] at h
      refine hr_aload_n hC dX21_doStatement_256 rfl ?_
      refine hr_iconst (v := 1) hC dX21_doStatement_257 rfl ?_
      obtain ⟨r97, e98, h⟩ := hx_bind h
      refine hs_callV0 hC 23 [_] _ dX21_doStatement_258 q3611 q3613 qs287 q335 q3614 np_X21 rfl OB_23 pd_X21_state (Nat.le_of_ble_eq_true rfl) hd1 (okX21_state l E A (d - 1)  (by omega)  e98 am) rfl ?_
      refine hr_aload_n hC dX21_doStatement_261 rfl ?_
      refine hr_aload_n hC dX21_doStatement_262 rfl ?_
      refine hr_gA hC F23_21 rfl dX21_doStatement_263 q2863 ?_
      refine hr_iload_n hC dX21_doStatement_266 rfl ?_
      obtain ⟨c101, h⟩ := hk_ok h
      refine hs_iald hC A23_21 c101 dX21_doStatement_267 ?_
      obtain ⟨r102, e103, h⟩ := hx_bind h
      refine hs_callV0 hC 23 [_] _ dX21_doStatement_268 q3595 q3597 qs283 q335 q3598 np_X21 rfl OB_23 pd_X21_push (Nat.le_of_ble_eq_true rfl) hd1 (okX21_push l E A (d - 1)  (by omega)  e103 am) rfl ?_
      refine hr_goto hC 429 dX21_doStatement_271 (by decide) ?_
      obtain rfl := Option.some.inj h
      exact hr_sub _ rfl (J4)
  rw [if_neg c176] at h
  by_cases c177 : (gC σ 23 18 x1).toInt8.toInt32 = 26
  · rw [if_pos c177] at h
    refine hr_tableIn hC 319 dX21_doStatement_6 (by rw [c177] <;> decide) (by rw [c177] <;> decide) (by rw [c177] <;> rfl) (by decide) ?_
    refine hr_aload_n hC dX21_doStatement_319 rfl ?_
    refine hr_iload_n hC dX21_doStatement_320 rfl ?_
    refine hr_iload_n hC dX21_doStatement_321 rfl ?_
    obtain ⟨r106, e107, h⟩ := hx_bind h
    refine hs_callV0 hC 23 [_, _] _ dX21_doStatement_322 q3623 q3625 qs290 q335 q3626 np_X21 rfl OB_23 pd_X21_doDo (Nat.le_of_ble_eq_true rfl) hd1 (okX21_doDo l E A (d - 1)  (by omega)  e107 am) rfl ?_
    refine hr_goto hC 429 dX21_doStatement_325 (by decide) ?_
    obtain rfl := Option.some.inj h
    exact hr_sub _ rfl (J4)
  rw [if_neg c177] at h
  by_cases c178 : (gC σ 23 18 x1).toInt8.toInt32 = 27
  · rw [if_pos c178] at h
    refine hr_tableIn hC 328 dX21_doStatement_6 (by rw [c178] <;> decide) (by rw [c178] <;> decide) (by rw [c178] <;> rfl) (by decide) ?_
    refine hr_aload_n hC dX21_doStatement_328 rfl ?_
    refine hr_iload_n hC dX21_doStatement_329 rfl ?_
    refine hr_iload_n hC dX21_doStatement_330 rfl ?_
    obtain ⟨r110, e111, h⟩ := hx_bind h
    refine hs_callV0 hC 23 [_, _] _ dX21_doStatement_331 q3627 q3629 qs291 q335 q3630 np_X21 rfl OB_23 pd_X21_doFor (Nat.le_of_ble_eq_true rfl) hd1 (okX21_doFor l E A (d - 1)  (by omega)  e111 am) rfl ?_
    refine hr_goto hC 429 dX21_doStatement_334 (by decide) ?_
    obtain rfl := Option.some.inj h
    exact hr_sub _ rfl (J4)
  rw [if_neg c178] at h
  by_cases c179 : (gC σ 23 18 x1).toInt8.toInt32 = 28
  · rw [if_pos c179] at h
    refine hr_tableIn hC 337 dX21_doStatement_6 (by rw [c179] <;> decide) (by rw [c179] <;> decide) (by rw [c179] <;> rfl) (by decide) ?_
    refine hr_aload_n hC dX21_doStatement_337 rfl ?_
    refine hr_iload_n hC dX21_doStatement_338 rfl ?_
    refine hr_iload_n hC dX21_doStatement_339 rfl ?_
    obtain ⟨r114, e115, h⟩ := hx_bind h
    refine hs_callV0 hC 23 [_, _] _ dX21_doStatement_340 q3631 q3633 qs292 q335 q3634 np_X21 rfl OB_23 pd_X21_doSwitch (Nat.le_of_ble_eq_true rfl) hd1 (okX21_doSwitch l E A (d - 1) n (by omega)  e115 am) rfl ?_
    refine hr_goto hC 429 dX21_doStatement_343 (by decide) ?_
    obtain rfl := Option.some.inj h
    exact hr_sub _ rfl (J4)
  rw [if_neg c179] at h
  by_cases c180 : (gC σ 23 18 x1).toInt8.toInt32 = 31
  · rw [if_pos c180] at h
    refine hr_tableIn hC 346 dX21_doStatement_6 (by rw [c180] <;> decide) (by rw [c180] <;> decide) (by rw [c180] <;> rfl) (by decide) ?_
    refine hr_aload_n hC dX21_doStatement_346 rfl ?_
    obtain ⟨r118, e119, h⟩ := hx_bind h
    refine hs_callV0 hC 23 [] _ dX21_doStatement_347 q3635 q3637 qs293 q335 q3638 np_X21 rfl OB_23 pd_X21_doBreak (Nat.le_of_ble_eq_true rfl) hd1 (okX21_doBreak l E A (d - 1) n (by omega)  e119 am) rfl ?_
    refine hr_goto hC 429 dX21_doStatement_350 (by decide) ?_
    obtain rfl := Option.some.inj h
    exact hr_sub _ rfl (J4)
  rw [if_neg c180] at h
  by_cases c181 : (gC σ 23 18 x1).toInt8.toInt32 = 32
  · rw [if_pos c181] at h
    refine hr_tableIn hC 353 dX21_doStatement_6 (by rw [c181] <;> decide) (by rw [c181] <;> decide) (by rw [c181] <;> rfl) (by decide) ?_
    refine hr_aload_n hC dX21_doStatement_353 rfl ?_
    obtain ⟨r122, e123, h⟩ := hx_bind h
    refine hs_callV0 hC 23 [] _ dX21_doStatement_354 q3643 q3645 qs295 q335 q3646 np_X21 rfl OB_23 pd_X21_doContinue (Nat.le_of_ble_eq_true rfl) hd1 (okX21_doContinue l E A (d - 1) n (by omega)  e123 am) rfl ?_
    refine hr_goto hC 429 dX21_doStatement_357 (by decide) ?_
    obtain rfl := Option.some.inj h
    exact hr_sub _ rfl (J4)
  rw [if_neg c181] at h
  by_cases c182 : (gC σ 23 18 x1).toInt8.toInt32 = 33
  · rw [if_pos c182] at h
    refine hr_tableIn hC 360 dX21_doStatement_6 (by rw [c182] <;> decide) (by rw [c182] <;> decide) (by rw [c182] <;> rfl) (by decide) ?_
    refine hr_iload_n hC dX21_doStatement_360 rfl ?_
    refine hr_if_ne (x := _) hC 391 dX21_doStatement_361 (by decide) (fun c127 => ?_) (fun c127 => ?_)
    · rw [if_neg c127] at h
      refine hr_aload_n hC dX21_doStatement_391 rfl ?_
      refine hr_iload_n hC dX21_doStatement_392 rfl ?_
      refine hr_iconst (v := 1) hC dX21_doStatement_393 rfl ?_
      obtain ⟨r130, e131, h⟩ := hx_bind h
      have J132 : hc_At hc_V0 E 4 X 405 [] [.int r130.2, .ref (E.2.1 23)] r130.1 am [] := by
        obtain ⟨r138, e139, h⟩ := hx_bind h
        refine hs_callV0 hC 23 [_] _ dX21_doStatement_405 q3647 q3649 qs296 q335 q3650 np_X21 rfl OB_23 pd_X21_leaveCall (Nat.le_of_ble_eq_true rfl) hd1 (okX21_leaveCall l E A (d - 1) n (by omega)  e139 am) rfl ?_
        refine hr_goto hC 429 dX21_doStatement_408 (by decide) ?_
        obtain rfl := Option.some.inj h
        exact hr_sub _ rfl (J4)
      clear h
      have h := e131
      refine hr_icmp_ne (x := _) hC 404 dX21_doStatement_394 (by decide) (fun c129 => ?_) (fun c129 => ?_)
      · rw [if_neg c129] at h
        refine hr_iconst (v := 0) hC dX21_doStatement_404 rfl ?_
        obtain rfl := Option.some.inj h
        exact hr_sub _ rfl (J132)
      · rw [if_pos c129] at h
        refine hr_aload_n hC dX21_doStatement_397 rfl ?_
        obtain ⟨r134, e135, h⟩ := hx_bind h
        refine hs_callV0 hC 23 [] _ dX21_doStatement_398 q3615 q3617 qs288 q335 q3618 np_X21 rfl OB_23 pd_X21_take_2 (Nat.le_of_ble_eq_true rfl) hd1 (okX21_take_2 l E A (d - 1)  (by omega)  e135 am) rfl ?_
        refine hr_goto hC 405 dX21_doStatement_401 (by decide) ?_
        obtain rfl := Option.some.inj h
        exact hr_sub _ rfl (J132)
    · rw [if_pos c127] at h
      refine hr_aload_n hC dX21_doStatement_364 rfl ?_
      refine hr_gA hC F23_21 rfl dX21_doStatement_365 q2863 ?_
      refine hr_iload_n hC dX21_doStatement_368 rfl ?_
      obtain ⟨c142, h⟩ := hk_ok h
      refine hs_iald hC A23_21 c142 dX21_doStatement_369 ?_
      refine hr_if_lt (x := _) hC 391 dX21_doStatement_370 (by decide) (fun c144 => ?_) (fun c144 => ?_)
      · rw [if_pos c144] at h
        refine hr_aload_n hC dX21_doStatement_391 rfl ?_
        refine hr_iload_n hC dX21_doStatement_392 rfl ?_
        refine hr_iconst (v := 1) hC dX21_doStatement_393 rfl ?_
        obtain ⟨r147, e148, h⟩ := hx_bind h
        have J149 : hc_At hc_V0 E 4 X 405 [] [.int r147.2, .ref (E.2.1 23)] r147.1 am [] := by
          obtain ⟨r155, e156, h⟩ := hx_bind h
          refine hs_callV0 hC 23 [_] _ dX21_doStatement_405 q3647 q3649 qs296 q335 q3650 np_X21 rfl OB_23 pd_X21_leaveCall (Nat.le_of_ble_eq_true rfl) hd1 (okX21_leaveCall l E A (d - 1) n (by omega)  e156 am) rfl ?_
          refine hr_goto hC 429 dX21_doStatement_408 (by decide) ?_
          obtain rfl := Option.some.inj h
          exact hr_sub _ rfl (J4)
        clear h
        have h := e148
        refine hr_icmp_ne (x := _) hC 404 dX21_doStatement_394 (by decide) (fun c146 => ?_) (fun c146 => ?_)
        · rw [if_neg c146] at h
          refine hr_iconst (v := 0) hC dX21_doStatement_404 rfl ?_
          obtain rfl := Option.some.inj h
          exact hr_sub _ rfl (J149)
        · rw [if_pos c146] at h
          refine hr_aload_n hC dX21_doStatement_397 rfl ?_
          obtain ⟨r151, e152, h⟩ := hx_bind h
          refine hs_callV0 hC 23 [] _ dX21_doStatement_398 q3615 q3617 qs288 q335 q3618 np_X21 rfl OB_23 pd_X21_take_2 (Nat.le_of_ble_eq_true rfl) hd1 (okX21_take_2 l E A (d - 1)  (by omega)  e152 am) rfl ?_
          refine hr_goto hC 405 dX21_doStatement_401 (by decide) ?_
          obtain rfl := Option.some.inj h
          exact hr_sub _ rfl (J149)
      · rw [if_neg c144] at h
        refine hr_aload_n hC dX21_doStatement_373 rfl ?_
        refine hr_iconst (v := 1) hC dX21_doStatement_374 rfl ?_
        obtain ⟨r159, e160, h⟩ := hx_bind h
        refine hs_callV0 hC 23 [_] _ dX21_doStatement_375 q3611 q3613 qs287 q335 q3614 np_X21 rfl OB_23 pd_X21_state (Nat.le_of_ble_eq_true rfl) hd1 (okX21_state l E A (d - 1)  (by omega)  e160 am) rfl ?_
        refine hr_aload_n hC dX21_doStatement_378 rfl ?_
        refine hr_aload_n hC dX21_doStatement_379 rfl ?_
        refine hr_gA hC F23_21 rfl dX21_doStatement_380 q2863 ?_
        refine hr_iload_n hC dX21_doStatement_383 rfl ?_
        obtain ⟨c163, h⟩ := hk_ok h
        refine hs_iald hC A23_21 c163 dX21_doStatement_384 ?_
        obtain ⟨r164, e165, h⟩ := hx_bind h
        refine hs_callV0 hC 23 [_] _ dX21_doStatement_385 q3595 q3597 qs283 q335 q3598 np_X21 rfl OB_23 pd_X21_push (Nat.le_of_ble_eq_true rfl) hd1 (okX21_push l E A (d - 1)  (by omega)  e165 am) rfl ?_
        refine hr_goto hC 429 dX21_doStatement_388 (by decide) ?_
        obtain rfl := Option.some.inj h
        exact hr_sub _ rfl (J4)
  rw [if_neg c182] at h
  by_cases c183 : (gC σ 23 18 x1).toInt8.toInt32 = 41
  · rw [if_pos c183] at h
    refine hr_tableIn hC 411 dX21_doStatement_6 (by rw [c183] <;> decide) (by rw [c183] <;> decide) (by rw [c183] <;> rfl) (by decide) ?_
    refine hr_aload_n hC dX21_doStatement_411 rfl ?_
    refine hr_iconst (v := 0) hC dX21_doStatement_412 rfl ?_
    obtain ⟨r168, e169, h⟩ := hx_bind h
    refine hs_callV0 hC 23 [_] _ dX21_doStatement_413 q3647 q3649 qs296 q335 q3650 np_X21 rfl OB_23 pd_X21_leaveCall (Nat.le_of_ble_eq_true rfl) hd1 (okX21_leaveCall l E A (d - 1) n (by omega)  e169 am) rfl ?_
    refine hr_goto hC 429 dX21_doStatement_416 (by decide) ?_
    obtain rfl := Option.some.inj h
    exact hr_sub _ rfl (J4)
  rw [if_neg c183] at h
  refine hr_tableD hC 419 dX21_doStatement_6 (ks := [20, 22, 23, 24, 25, 26, 27, 28, 31, 32, 33, 41]) (hc_l1 (hc_ne c172 rfl) (hc_l1 (hc_ne c173 rfl) (hc_l1 (hc_ne c174 rfl) (hc_l1 (hc_ne c175 rfl) (hc_l1 (hc_ne c176 rfl) (hc_l1 (hc_ne c177 rfl) (hc_l1 (hc_ne c178 rfl) (hc_l1 (hc_ne c179 rfl) (hc_l1 (hc_ne c180 rfl) (hc_l1 (hc_ne c181 rfl) (hc_l1 (hc_ne c182 rfl) (hc_l1 (hc_ne c183 rfl) hc_l0)))))))))))) (by decide) (by decide) (by decide) ?_
  refine hr_aload_n hC dX21_doStatement_419 rfl ?_
  refine hr_dup hC dX21_doStatement_420 rfl ?_
  refine hr_gI hC F23_69 dX21_doStatement_421 q2910 ?_
  refine hr_iconst (v := 1) hC dX21_doStatement_424 rfl ?_
  refine hr_isub hC dX21_doStatement_425 ?_
  obtain ⟨σ6, hσ6, h⟩ := hl_ok h
  refine hr_pI hC F23_69 PX21_69 dX21_doStatement_426 q2910 ?_
  rw [← hσ6]
  obtain rfl := Option.some.inj h
  exact hr_sub _ rfl (J4)
/-- HomeCompilerModel.done(I)V -/
def fm_X21_done  (x1 : Int32) (σ : hc_St) : Option hc_St := hl (pI σ 23 69 ((((gI σ 23 69)) - 1))) fun σ1 => Option.bind (fm_X21_give x1 σ1) fun r2 => some r2
set_option maxRecDepth 20000 in
set_option maxHeartbeats 4000000 in
theorem okX21_done (l : Launch) (E : hc_E) (A : Nat → Prop) (d : Nat)  (hD : 2 ≤ d) {x1 : Int32} {σ : hc_St} {r : hc_St} (h : fm_X21_done  x1 σ = some r) (am : Nat → Nat → Nat) : hc_M l hc_V0 yX21_done (ws_ yX21_done cX21_done 2 none) d E A [.ref (E.2.1 23), .int x1] am [] σ (.inl none) r := by
  have hd1 : 1 ≤ d := by omega
  refine hc_enter2 (own := RX21) [(0, .ref (E.2.1 23)), (1, .int x1)] pl_X21 rfl hc_V0_st hc_G0_nd rfl (Nat.le_of_ble_eq_true rfl) (fun X hC hem => ?_)
  unfold fm_X21_done at h
  refine hr_aload_n hC dX21_done_0 rfl ?_
  refine hr_dup hC dX21_done_1 rfl ?_
  refine hr_gI hC F23_69 dX21_done_2 q2910 ?_
  refine hr_iconst (v := 1) hC dX21_done_5 rfl ?_
  refine hr_isub hC dX21_done_6 ?_
  obtain ⟨σ1, hσ1, h⟩ := hl_ok h
  refine hr_pI hC F23_69 PX21_69 dX21_done_7 q2910 ?_
  rw [← hσ1]
  refine hr_aload_n hC dX21_done_10 rfl ?_
  refine hr_iload_n hC dX21_done_11 rfl ?_
  obtain ⟨r2, e3, h⟩ := hx_bind h
  refine hs_callV0 hC 23 [_] _ dX21_done_12 q3571 q3573 qs277 q335 q3574 np_X21 rfl OB_23 pd_X21_give (Nat.le_of_ble_eq_true rfl) hd1 (okX21_give l E A (d - 1)  (by omega)  e3 am) rfl ?_
  obtain rfl := Option.some.inj h
  exact hr_vret hC dX21_done_15
/-- HomeCompilerModel.isArray(II)Z -/
def fm_X21_isArray (n : Nat) (x1 : Int32) (x2 : Int32) (σ : hc_St) : Option Int32 := Option.bind (α := Int32) (if x1 < 100 then (Option.bind (fm_X21_taken n ((-1)) x1 x2 σ) fun r7 => some (r7)) else (Option.bind (fm_X21_taken n ((x1 - 100)) ((-1)) x2 σ) fun r11 => some (r11))) fun r3 => hl (α := Int32) ((if r3 = 105 then 0 else (if r3 = 107 then 0 else 1))) fun v17 => hk (hb01 v17) <| some v17
set_option maxRecDepth 20000 in
set_option maxHeartbeats 4000000 in
theorem okX21_isArray (l : Launch) (E : hc_E) (A : Nat → Prop) (d : Nat) (n : Nat) (hD : 10 ≤ d) {x1 : Int32} {x2 : Int32} {σ : hc_St} {r : Int32} (h : fm_X21_isArray n x1 x2 σ = some r) (am : Nat → Nat → Nat) : hc_M l hc_V0 yX21_isArray (ws_ yX21_isArray cX21_isArray 4 (some .boolean)) d E A [.ref (E.2.1 23), .int x1, .int x2] am [] σ (.inl (some (.int r))) σ := by
  have hd1 : 1 ≤ d := by omega
  have hd8 : 9 ≤ d := by omega
  refine hc_enter2 (own := RX21) [(0, .ref (E.2.1 23)), (1, .int x1), (2, .int x2)] pl_X21 rfl hc_V0_st hc_G0_nd rfl (Nat.le_of_ble_eq_true rfl) (fun X hC hem => ?_)
  unfold fm_X21_isArray at h
  refine hr_iload_n hC dX21_isArray_0 rfl ?_
  refine hr_bipush (v := 100) hC dX21_isArray_1 rfl ?_
  obtain ⟨r3, e4, h⟩ := hx_bind h
  have J5 : hc_At hc_V0 E 4 X 26 [] [.int r3] σ am [] := by
    refine hr_istore_n hC dX21_isArray_26 (by decide) ?_
    refine hr_iload_n hC dX21_isArray_27 rfl ?_
    refine hr_bipush (v := 105) hC dX21_isArray_28 rfl ?_
    obtain ⟨v17, hv17, h⟩ := hl_ok h
    have J19 : ∀ w20 : Int32, (if r3 = 105 then 0 else (if r3 = 107 then 0 else 1)) = w20 → hc_At hc_V0 E 4 X 44 [] [.int w20] σ am [] := by
      intro w20 hw20
      obtain rfl := hv17.trans hw20
      obtain ⟨c18, h⟩ := hk_ok h
      obtain rfl := Option.some.inj h
      exact hr_zret hC (hb01_n c18) dX21_isArray_44
    refine hr_icmp_eq (x := _) hC 43 dX21_isArray_30 (by decide) (fun c21 => ?_) (fun c21 => ?_)
    · refine hr_iconst (v := 0) hC dX21_isArray_43 rfl ?_
      exact hr_sub _ rfl (J19 _ (by first | (rw [if_pos c21]; done) | (simp only [if_pos c21]; done) | rfl))
    · refine hr_iload_n hC dX21_isArray_33 rfl ?_
      refine hr_bipush (v := 107) hC dX21_isArray_34 rfl ?_
      refine hr_icmp_eq (x := _) hC 43 dX21_isArray_36 (by decide) (fun c22 => ?_) (fun c22 => ?_)
      · refine hr_iconst (v := 0) hC dX21_isArray_43 rfl ?_
        exact hr_sub _ rfl (J19 _ (by first | (rw [if_neg c21, if_pos c22]; done) | (simp only [if_neg c21, if_pos c22]; done) | rfl))
      · refine hr_iconst (v := 1) hC dX21_isArray_39 rfl ?_
        refine hr_goto hC 44 dX21_isArray_40 (by decide) ?_
        exact hr_sub _ rfl (J19 _ (by first | (rw [if_neg c21, if_neg c22]; done) | (simp only [if_neg c21, if_neg c22]; done) | rfl))
  clear h
  have h := e4
  refine hr_icmp_lt (x := _) hC 19 dX21_isArray_3 (by decide) (fun c2 => ?_) (fun c2 => ?_)
  · rw [if_pos c2] at h
    refine hr_aload_n hC dX21_isArray_19 rfl ?_
    refine hr_iconst (v := (-1)) hC dX21_isArray_20 rfl ?_
    refine hr_iload_n hC dX21_isArray_21 rfl ?_
    refine hr_iload_n hC dX21_isArray_22 rfl ?_
    obtain ⟨r7, e8, h⟩ := hx_bind h
    refine hs_callV0 hC 23 [_, _, _] _ dX21_isArray_23 q3454 q3456 qs250 q335 q3457 np_X21 rfl OB_23 pd_X21_taken (Nat.le_of_ble_eq_true rfl) hd1 (okX21_taken l E A (d - 1) n (by omega)  e8 am) rfl ?_
    obtain rfl := Option.some.inj h
    exact hr_sub _ rfl (J5)
  · rw [if_neg c2] at h
    refine hr_aload_n hC dX21_isArray_6 rfl ?_
    refine hr_iload_n hC dX21_isArray_7 rfl ?_
    refine hr_bipush (v := 100) hC dX21_isArray_8 rfl ?_
    refine hr_isub hC dX21_isArray_10 ?_
    refine hr_iconst (v := (-1)) hC dX21_isArray_11 rfl ?_
    refine hr_iload_n hC dX21_isArray_12 rfl ?_
    obtain ⟨r11, e12, h⟩ := hx_bind h
    refine hs_callV0 hC 23 [_, _, _] _ dX21_isArray_13 q3454 q3456 qs250 q335 q3457 np_X21 rfl OB_23 pd_X21_taken (Nat.le_of_ble_eq_true rfl) hd1 (okX21_taken l E A (d - 1) n (by omega)  e12 am) rfl ?_
    refine hr_goto hC 26 dX21_isArray_16 (by decide) ?_
    obtain rfl := Option.some.inj h
    exact hr_sub _ rfl (J5)
/-- HomeCompilerModel.arrayAt(I)I -/
def fm_X21_arrayAt  (x1 : Int32) (σ : hc_St) : Option Int32 := Option.bind (fm_X21_isGiven x1 σ) fun r1 => Option.bind (α := Int32) (if r1 = 0 then (Option.bind (fm_X21_cellOf x1 σ) fun r11 => some (r11)) else (Option.bind (fm_X21_cellOf x1 σ) fun r15 => hk (inb r15 (gL σ 23 66)) <| some ((gC σ 23 66 r15)))) fun r7 => some r7
set_option maxRecDepth 20000 in
set_option maxHeartbeats 4000000 in
theorem okX21_arrayAt (l : Launch) (E : hc_E) (A : Nat → Prop) (d : Nat)  (hD : 2 ≤ d) {x1 : Int32} {σ : hc_St} {r : Int32} (h : fm_X21_arrayAt  x1 σ = some r) (am : Nat → Nat → Nat) : hc_M l hc_V0 yX21_arrayAt (ws_ yX21_arrayAt cX21_arrayAt 2 (some .int)) d E A [.ref (E.2.1 23), .int x1] am [] σ (.inl (some (.int r))) σ := by
  have hd1 : 1 ≤ d := by omega
  refine hc_enter2 (own := RX21) [(0, .ref (E.2.1 23)), (1, .int x1)] pl_X21 rfl hc_V0_st hc_G0_nd rfl (Nat.le_of_ble_eq_true rfl) (fun X hC hem => ?_)
  unfold fm_X21_arrayAt at h
  refine hr_aload_n hC dX21_arrayAt_0 rfl ?_
  refine hr_iload_n hC dX21_arrayAt_1 rfl ?_
  obtain ⟨r1, e2, h⟩ := hx_bind h
  refine hs_callV0 hC 23 [_] _ dX21_arrayAt_2 q3591 q3593 qs282 q335 q3594 np_X21 rfl OB_23 pd_X21_isGiven (Nat.le_of_ble_eq_true rfl) hd1 (okX21_isGiven l E A (d - 1)  (by omega)  e2 am) rfl ?_
  obtain ⟨r7, e8, h⟩ := hx_bind h
  have J9 : hc_At hc_V0 E 2 X 26 [] [.int r7] σ am [] := by
    obtain rfl := Option.some.inj h
    exact hr_iret hC dX21_arrayAt_26
  clear h
  have h := e8
  refine hr_if_eq (x := _) hC 21 dX21_arrayAt_5 (by decide) (fun c6 => ?_) (fun c6 => ?_)
  · rw [if_pos c6] at h
    refine hr_aload_n hC dX21_arrayAt_21 rfl ?_
    refine hr_iload_n hC dX21_arrayAt_22 rfl ?_
    obtain ⟨r11, e12, h⟩ := hx_bind h
    refine hs_callV0 hC 23 [_] _ dX21_arrayAt_23 q3559 q3561 qs274 q335 q3562 np_X21 rfl OB_23 pd_X21_cellOf (Nat.le_of_ble_eq_true rfl) hd1 (okX21_cellOf l E A (d - 1)  (by omega)  e12 am) rfl ?_
    obtain rfl := Option.some.inj h
    exact hr_sub _ rfl (J9)
  · rw [if_neg c6] at h
    refine hr_aload_n hC dX21_arrayAt_8 rfl ?_
    refine hr_gA hC F23_66 rfl dX21_arrayAt_9 q2907 ?_
    refine hr_aload_n hC dX21_arrayAt_12 rfl ?_
    refine hr_iload_n hC dX21_arrayAt_13 rfl ?_
    obtain ⟨r15, e16, h⟩ := hx_bind h
    refine hs_callV0 hC 23 [_] _ dX21_arrayAt_14 q3559 q3561 qs274 q335 q3562 np_X21 rfl OB_23 pd_X21_cellOf (Nat.le_of_ble_eq_true rfl) hd1 (okX21_cellOf l E A (d - 1)  (by omega)  e16 am) rfl ?_
    obtain ⟨c19, h⟩ := hk_ok h
    refine hs_iald hC A23_66 c19 dX21_arrayAt_17 ?_
    refine hr_goto hC 26 dX21_arrayAt_18 (by decide) ?_
    obtain rfl := Option.some.inj h
    exact hr_sub _ rfl (J9)
/-- HomeCompilerModel.arraySize(I)I -/
def fm_X21_arraySize  (x1 : Int32) (σ : hc_St) : Option Int32 := Option.bind (fm_X21_isGiven x1 σ) fun r1 => Option.bind (α := Int32) (if r1 = 0 then (hk (inb x1 (gL σ 23 57)) <| some ((gC σ 23 57 x1))) else (Option.bind (fm_X21_cellOf x1 σ) fun r12 => hk (inb ((r12 + 1)) (gL σ 23 66)) <| some ((gC σ 23 66 ((r12 + 1)))))) fun r7 => some r7
set_option maxRecDepth 20000 in
set_option maxHeartbeats 4000000 in
theorem okX21_arraySize (l : Launch) (E : hc_E) (A : Nat → Prop) (d : Nat)  (hD : 2 ≤ d) {x1 : Int32} {σ : hc_St} {r : Int32} (h : fm_X21_arraySize  x1 σ = some r) (am : Nat → Nat → Nat) : hc_M l hc_V0 yX21_arraySize (ws_ yX21_arraySize cX21_arraySize 2 (some .int)) d E A [.ref (E.2.1 23), .int x1] am [] σ (.inl (some (.int r))) σ := by
  have hd1 : 1 ≤ d := by omega
  refine hc_enter2 (own := RX21) [(0, .ref (E.2.1 23)), (1, .int x1)] pl_X21 rfl hc_V0_st hc_G0_nd rfl (Nat.le_of_ble_eq_true rfl) (fun X hC hem => ?_)
  unfold fm_X21_arraySize at h
  refine hr_aload_n hC dX21_arraySize_0 rfl ?_
  refine hr_iload_n hC dX21_arraySize_1 rfl ?_
  obtain ⟨r1, e2, h⟩ := hx_bind h
  refine hs_callV0 hC 23 [_] _ dX21_arraySize_2 q3591 q3593 qs282 q335 q3594 np_X21 rfl OB_23 pd_X21_isGiven (Nat.le_of_ble_eq_true rfl) hd1 (okX21_isGiven l E A (d - 1)  (by omega)  e2 am) rfl ?_
  obtain ⟨r7, e8, h⟩ := hx_bind h
  have J9 : hc_At hc_V0 E 2 X 29 [] [.int r7] σ am [] := by
    obtain rfl := Option.some.inj h
    exact hr_iret hC dX21_arraySize_29
  clear h
  have h := e8
  refine hr_if_eq (x := _) hC 23 dX21_arraySize_5 (by decide) (fun c6 => ?_) (fun c6 => ?_)
  · rw [if_pos c6] at h
    refine hr_aload_n hC dX21_arraySize_23 rfl ?_
    refine hr_gA hC F23_57 rfl dX21_arraySize_24 q2898 ?_
    refine hr_iload_n hC dX21_arraySize_27 rfl ?_
    obtain ⟨c11, h⟩ := hk_ok h
    refine hs_iald hC A23_57 c11 dX21_arraySize_28 ?_
    obtain rfl := Option.some.inj h
    exact hr_sub _ rfl (J9)
  · rw [if_neg c6] at h
    refine hr_aload_n hC dX21_arraySize_8 rfl ?_
    refine hr_gA hC F23_66 rfl dX21_arraySize_9 q2907 ?_
    refine hr_aload_n hC dX21_arraySize_12 rfl ?_
    refine hr_iload_n hC dX21_arraySize_13 rfl ?_
    obtain ⟨r12, e13, h⟩ := hx_bind h
    refine hs_callV0 hC 23 [_] _ dX21_arraySize_14 q3559 q3561 qs274 q335 q3562 np_X21 rfl OB_23 pd_X21_cellOf (Nat.le_of_ble_eq_true rfl) hd1 (okX21_cellOf l E A (d - 1)  (by omega)  e13 am) rfl ?_
    refine hr_iconst (v := 1) hC dX21_arraySize_17 rfl ?_
    refine hr_iadd hC dX21_arraySize_18 ?_
    obtain ⟨c16, h⟩ := hk_ok h
    refine hs_iald hC A23_66 c16 dX21_arraySize_19 ?_
    refine hr_goto hC 29 dX21_arraySize_20 (by decide) ?_
    obtain rfl := Option.some.inj h
    exact hr_sub _ rfl (J9)
/-- HomeCompilerModel.write(I)V -/
def fm_X21_write  (x1 : Int32) (σ : hc_St) : Option hc_St := Option.bind (α := hc_St) (if 1024 ≤ (gI σ 23 81) then (some (σ)) else (hk (inb ((gI σ 23 81)) (gL σ 23 82)) <| hl (pC σ 23 82 ((gI σ 23 81)) x1) fun σ8 => some (σ8))) fun r3 => hl (pI r3 23 81 ((((gI r3 23 81)) + 1))) fun σ9 => some σ9
set_option maxRecDepth 20000 in
set_option maxHeartbeats 4000000 in
theorem okX21_write (l : Launch) (E : hc_E) (A : Nat → Prop) (d : Nat)  (hD : 1 ≤ d) {x1 : Int32} {σ : hc_St} {r : hc_St} (h : fm_X21_write  x1 σ = some r) (am : Nat → Nat → Nat) : hc_M l hc_V0 yX21_write (ws_ yX21_write cX21_write 2 none) d E A [.ref (E.2.1 23), .int x1] am [] σ (.inl none) r := by
  have hd1 : 1 ≤ d := by omega
  refine hc_enter2 (own := RX21) [(0, .ref (E.2.1 23)), (1, .int x1)] pl_X21 rfl hc_V0_st hc_G0_nd rfl (Nat.le_of_ble_eq_true rfl) (fun X hC hem => ?_)
  unfold fm_X21_write at h
  refine hr_aload_n hC dX21_write_0 rfl ?_
  refine hr_gI hC F23_81 dX21_write_1 q2922 ?_
  refine hr_sipush (v := 1024) hC dX21_write_4 rfl ?_
  obtain ⟨r3, e4, h⟩ := hx_bind h
  have J5 : hc_At hc_V0 E 2 X 20 [(0, .ref (E.2.1 23))] [] r3 am [] := by
    refine hr_aload_n hC dX21_write_20 rfl ?_
    refine hr_dup hC dX21_write_21 rfl ?_
    refine hr_gI hC F23_81 dX21_write_22 q2922 ?_
    refine hr_iconst (v := 1) hC dX21_write_25 rfl ?_
    refine hr_iadd hC dX21_write_26 ?_
    obtain ⟨σ9, hσ9, h⟩ := hl_ok h
    refine hr_pI hC F23_81 PX21_81 dX21_write_27 q2922 ?_
    rw [← hσ9]
    obtain rfl := Option.some.inj h
    exact hr_vret hC dX21_write_30
  clear h
  have h := e4
  refine hr_icmp_ge (x := _) hC 20 dX21_write_7 (by decide) (fun c2 => ?_) (fun c2 => ?_)
  · rw [if_pos c2] at h
    obtain rfl := Option.some.inj h
    exact hr_sub _ rfl (J5)
  · rw [if_neg c2] at h
    refine hr_aload_n hC dX21_write_10 rfl ?_
    refine hr_gA hC F23_82 rfl dX21_write_11 q2923 ?_
    refine hr_aload_n hC dX21_write_14 rfl ?_
    refine hr_gI hC F23_81 dX21_write_15 q2922 ?_
    refine hr_iload_n hC dX21_write_18 rfl ?_
    obtain ⟨c7, h⟩ := hk_ok h
    obtain ⟨σ8, hσ8, h⟩ := hl_ok h
    refine hs_iast hC A23_82 c7 dX21_write_19 ?_
    rw [← hσ8]
    obtain rfl := Option.some.inj h
    exact hr_sub _ rfl (J5)
def lp_X21_nextInput_19 (n : Nat) : Nat → Int32 → Int32 → hc_St → Option (hc_St)
  | 0, _, _, _ => none
  | m + 1, y1, y2, σ => if (gI σ 23 83) ≤ y2 then (some (σ)) else (hk (inb ((y2 + 1)) (gL σ 23 84)) <| hk (inb y2 (gL σ 23 84)) <| hl (pC σ 23 84 y2 ((gC σ 23 84 ((y2 + 1))))) fun σ7 => lp_X21_nextInput_19 n m y1 ((y2 + 1)) σ7)
/-- HomeCompilerModel.nextInput()I -/
def fm_X21_nextInput (n : Nat)  (σ : hc_St) : Option (Int32 × hc_St) := hk (inb 0 (gL σ 23 84)) <| hl (pI σ 23 83 ((((gI σ 23 83)) - 1))) fun σ2 => Option.bind (lp_X21_nextInput_19 n n ((gC σ 23 84 0)) 0 σ2) fun r8 => some ((gC σ 23 84 0), r8)
set_option maxRecDepth 20000 in
set_option maxHeartbeats 4000000 in
theorem ll_X21_nextInput_19 {l : Launch} {E : hc_E} {A : Nat → Prop} {am : Nat → Nat → Nat} {d : Nat} {X : hc_X} (n : Nat) (hD : 1 ≤ d) (hem : X.2.2.2.2.2.2.2.2.2.1.exceptionTable.isEmpty = true) {oc : hc_Oc} {σe : hc_St} (hC : hc_C hc_V0 E cX21_nextInput 3 RX21 (some .int) d oc σe (l, A, am, []) X) : ∀ (m : Nat) (σ : hc_St) (y1 : Int32) (y2 : Int32) (rl : hc_St) (am1 : Nat → Nat → Nat), lp_X21_nextInput_19 n m y1 y2 σ = some rl → (hc_At hc_V0 E 3 X 47 [(1, .int y1)] [] rl am1 []) → hc_At hc_V0 E 3 X 19 [(0, .ref (E.2.1 23)), (1, .int y1), (2, .int y2)] [] σ am1 [] := by
  have hd1 : 1 ≤ d := by omega
  intro m
  induction m with
  | zero =>
    intro σ y1 y2 rl am1 h
    cases h
  | succ m ih =>
    intro σ y1 y2 rl am1 h JX
    rw [lp_X21_nextInput_19] at h
    refine hr_iload_n hC dX21_nextInput_19 rfl ?_
    refine hr_aload_n hC dX21_nextInput_20 rfl ?_
    refine hr_gI hC F23_83 dX21_nextInput_21 q2924 ?_
    refine hr_icmp_ge (x := _) hC 47 dX21_nextInput_24 (by decide) (fun c4 => ?_) (fun c4 => ?_)
    · rw [if_pos c4] at h
      obtain rfl := Option.some.inj h
      exact hr_sub _ rfl (JX)
    · rw [if_neg c4] at h
      refine hr_aload_n hC dX21_nextInput_27 rfl ?_
      refine hr_gA hC F23_84 rfl dX21_nextInput_28 q2925 ?_
      refine hr_iload_n hC dX21_nextInput_31 rfl ?_
      refine hr_aload_n hC dX21_nextInput_32 rfl ?_
      refine hr_gA hC F23_84 rfl dX21_nextInput_33 q2925 ?_
      refine hr_iload_n hC dX21_nextInput_36 rfl ?_
      refine hr_iconst (v := 1) hC dX21_nextInput_37 rfl ?_
      refine hr_iadd hC dX21_nextInput_38 ?_
      obtain ⟨c5, h⟩ := hk_ok h
      refine hs_iald hC A23_84 c5 dX21_nextInput_39 ?_
      obtain ⟨c6, h⟩ := hk_ok h
      obtain ⟨σ7, hσ7, h⟩ := hl_ok h
      refine hs_iast hC A23_84 c6 dX21_nextInput_40 ?_
      rw [← hσ7]
      refine hr_iinc (v := y2 + 1) hC dX21_nextInput_41 rfl rfl (by decide) ?_
      refine hr_goto hC 19 dX21_nextInput_44 (by decide) ?_
      exact hr_sub _ rfl (ih _ _ _ _ am1 h JX)
set_option maxRecDepth 20000 in
set_option maxHeartbeats 4000000 in
theorem okX21_nextInput (l : Launch) (E : hc_E) (A : Nat → Prop) (d : Nat) (n : Nat) (hD : 1 ≤ d)  {σ : hc_St} {r : (Int32 × hc_St)} (h : fm_X21_nextInput n  σ = some r) (am : Nat → Nat → Nat) : hc_M l hc_V0 yX21_nextInput (ws_ yX21_nextInput cX21_nextInput 3 (some .int)) d E A [.ref (E.2.1 23)] am [] σ (.inl (some (.int r.1))) r.2 := by
  have hd1 : 1 ≤ d := by omega
  refine hc_enter2 (own := RX21) [(0, .ref (E.2.1 23))] pl_X21 rfl hc_V0_st hc_G0_nd rfl (Nat.le_of_ble_eq_true rfl) (fun X hC hem => ?_)
  unfold fm_X21_nextInput at h
  refine hr_aload_n hC dX21_nextInput_0 rfl ?_
  refine hr_gA hC F23_84 rfl dX21_nextInput_1 q2925 ?_
  refine hr_iconst (v := 0) hC dX21_nextInput_4 rfl ?_
  obtain ⟨c1, h⟩ := hk_ok h
  refine hs_iald hC A23_84 c1 dX21_nextInput_5 ?_
  refine hr_istore_n hC dX21_nextInput_6 (by decide) ?_
  refine hr_aload_n hC dX21_nextInput_7 rfl ?_
  refine hr_dup hC dX21_nextInput_8 rfl ?_
  refine hr_gI hC F23_83 dX21_nextInput_9 q2924 ?_
  refine hr_iconst (v := 1) hC dX21_nextInput_12 rfl ?_
  refine hr_isub hC dX21_nextInput_13 ?_
  obtain ⟨σ2, hσ2, h⟩ := hl_ok h
  refine hr_pI hC F23_83 PX21_83 dX21_nextInput_14 q2924 ?_
  rw [← hσ2]
  refine hr_iconst (v := 0) hC dX21_nextInput_17 rfl ?_
  refine hr_istore_n hC dX21_nextInput_18 (by decide) ?_
  obtain ⟨r8, e9, h⟩ := hx_bind h
  refine hr_sub _ rfl (ll_X21_nextInput_19 n hD hem hC n _ _ _ _ am e9 ?_)
  refine hr_iload_n hC dX21_nextInput_47 rfl ?_
  obtain rfl := Option.some.inj h
  exact hr_iret hC dX21_nextInput_48
def lp_X21_moveBlock_19 (n : Nat) : Nat → Int32 → Int32 → Int32 → Int32 → Int32 → hc_St → Option (hc_St)
  | 0, _, _, _, _, _, _ => none
  | m + 1, y1, y2, y3, y4, y5, σ => if y4 ≤ y5 then (some (σ)) else (if 16 ≤ y5 then (some (σ)) else (Option.bind (α := hc_St) (if y1 = 0 then (hk (inb ((y3 + y5)) (gL σ 23 66)) <| hk (inb ((((16 * y2)) + y5)) (gL σ 23 85)) <| hl (pC σ 23 85 ((((16 * y2)) + y5)) ((gC σ 23 66 ((y3 + y5))))) fun σ21 => some (σ21)) else (hk (inb ((((16 * y2)) + y5)) (gL σ 23 85)) <| hk (inb ((y3 + y5)) (gL σ 23 66)) <| hl (pC σ 23 66 ((y3 + y5)) ((gC σ 23 85 ((((16 * y2)) + y5))))) fun σ24 => some (σ24))) fun r15 => lp_X21_moveBlock_19 n m y1 y2 y3 y4 ((y5 + 1)) r15))
/-- HomeCompilerModel.moveBlock(ZIII)V -/
def fm_X21_moveBlock (n : Nat) (x1 : Int32) (x2 : Int32) (x3 : Int32) (x4 : Int32) (σ : hc_St) : Option hc_St := if x2 < 0 then (Option.bind (fm_X21_stop 2 σ) fun r3 => some r3) else (if x2 ≤ 7 then (Option.bind (lp_X21_moveBlock_19 n n x1 x2 x3 x4 0 σ) fun r25 => Option.bind (fm_X21_done 0 r25) fun r30 => some r30) else (Option.bind (fm_X21_stop 2 σ) fun r34 => some r34))
set_option maxRecDepth 20000 in
set_option maxHeartbeats 4000000 in
theorem ll_X21_moveBlock_19 {l : Launch} {E : hc_E} {A : Nat → Prop} {am : Nat → Nat → Nat} {d : Nat} {X : hc_X} (n : Nat) (hD : 3 ≤ d) (hem : X.2.2.2.2.2.2.2.2.2.1.exceptionTable.isEmpty = true) {oc : hc_Oc} {σe : hc_St} (hC : hc_C hc_V0 E cX21_moveBlock 6 RX21 none d oc σe (l, A, am, []) X) : ∀ (m : Nat) (σ : hc_St) (y1 : Int32) (y2 : Int32) (y3 : Int32) (y4 : Int32) (y5 : Int32) (rl : hc_St) (am1 : Nat → Nat → Nat), lp_X21_moveBlock_19 n m y1 y2 y3 y4 y5 σ = some rl → (hc_At hc_V0 E 6 X 88 [(0, .ref (E.2.1 23))] [] rl am1 []) → hc_At hc_V0 E 6 X 19 [(0, .ref (E.2.1 23)), (1, .int y1), (2, .int y2), (3, .int y3), (4, .int y4), (5, .int y5)] [] σ am1 [] := by
  have hd1 : 1 ≤ d := by omega
  intro m
  induction m with
  | zero =>
    intro σ y1 y2 y3 y4 y5 rl am1 h
    cases h
  | succ m ih =>
    intro σ y1 y2 y3 y4 y5 rl am1 h JX
    rw [lp_X21_moveBlock_19] at h
    refine hr_iload hC dX21_moveBlock_19 rfl ?_
    refine hr_iload hC dX21_moveBlock_21 rfl ?_
    refine hr_icmp_ge (x := _) hC 88 dX21_moveBlock_23 (by decide) (fun c10 => ?_) (fun c10 => ?_)
    · rw [if_pos c10] at h
      obtain rfl := Option.some.inj h
      exact hr_sub _ rfl (JX)
    · rw [if_neg c10] at h
      refine hr_iload hC dX21_moveBlock_26 rfl ?_
      refine hr_bipush (v := 16) hC dX21_moveBlock_28 rfl ?_
      refine hr_icmp_ge (x := _) hC 88 dX21_moveBlock_30 (by decide) (fun c12 => ?_) (fun c12 => ?_)
      · rw [if_pos c12] at h
        obtain rfl := Option.some.inj h
        exact hr_sub _ rfl (JX)
      · rw [if_neg c12] at h
        refine hr_iload_n hC dX21_moveBlock_33 rfl ?_
        obtain ⟨r15, e16, h⟩ := hx_bind h
        have J17 : hc_At hc_V0 E 6 X 82 [(0, .ref (E.2.1 23)), (1, .int y1), (2, .int y2), (3, .int y3), (4, .int y4), (5, .int y5)] [] r15 am1 [] := by
          refine hr_iinc (v := y5 + 1) hC dX21_moveBlock_82 rfl rfl (by decide) ?_
          refine hr_goto hC 19 dX21_moveBlock_85 (by decide) ?_
          exact hr_sub _ rfl (ih _ _ _ _ _ _ _ am1 h JX)
        clear h
        have h := e16
        refine hr_if_eq (x := _) hC 61 dX21_moveBlock_34 (by decide) (fun c14 => ?_) (fun c14 => ?_)
        · rw [if_pos c14] at h
          refine hr_aload_n hC dX21_moveBlock_61 rfl ?_
          refine hr_gA hC F23_85 rfl dX21_moveBlock_62 q2926 ?_
          refine hr_bipush (v := 16) hC dX21_moveBlock_65 rfl ?_
          refine hr_iload_n hC dX21_moveBlock_67 rfl ?_
          refine hr_imul hC dX21_moveBlock_68 ?_
          refine hr_iload hC dX21_moveBlock_69 rfl ?_
          refine hr_iadd hC dX21_moveBlock_71 ?_
          refine hr_aload_n hC dX21_moveBlock_72 rfl ?_
          refine hr_gA hC F23_66 rfl dX21_moveBlock_73 q2907 ?_
          refine hr_iload_n hC dX21_moveBlock_76 rfl ?_
          refine hr_iload hC dX21_moveBlock_77 rfl ?_
          refine hr_iadd hC dX21_moveBlock_79 ?_
          obtain ⟨c19, h⟩ := hk_ok h
          refine hs_iald hC A23_66 c19 dX21_moveBlock_80 ?_
          obtain ⟨c20, h⟩ := hk_ok h
          obtain ⟨σ21, hσ21, h⟩ := hl_ok h
          refine hs_iast hC A23_85 c20 dX21_moveBlock_81 ?_
          rw [← hσ21]
          obtain rfl := Option.some.inj h
          exact hr_sub _ rfl (J17)
        · rw [if_neg c14] at h
          refine hr_aload_n hC dX21_moveBlock_37 rfl ?_
          refine hr_gA hC F23_66 rfl dX21_moveBlock_38 q2907 ?_
          refine hr_iload_n hC dX21_moveBlock_41 rfl ?_
          refine hr_iload hC dX21_moveBlock_42 rfl ?_
          refine hr_iadd hC dX21_moveBlock_44 ?_
          refine hr_aload_n hC dX21_moveBlock_45 rfl ?_
          refine hr_gA hC F23_85 rfl dX21_moveBlock_46 q2926 ?_
          refine hr_bipush (v := 16) hC dX21_moveBlock_49 rfl ?_
          refine hr_iload_n hC dX21_moveBlock_51 rfl ?_
          refine hr_imul hC dX21_moveBlock_52 ?_
          refine hr_iload hC dX21_moveBlock_53 rfl ?_
          refine hr_iadd hC dX21_moveBlock_55 ?_
          obtain ⟨c22, h⟩ := hk_ok h
          refine hs_iald hC A23_85 c22 dX21_moveBlock_56 ?_
          obtain ⟨c23, h⟩ := hk_ok h
          obtain ⟨σ24, hσ24, h⟩ := hl_ok h
          refine hs_iast hC A23_66 c23 dX21_moveBlock_57 ?_
          rw [← hσ24]
          refine hr_goto hC 82 dX21_moveBlock_58 (by decide) ?_
          obtain rfl := Option.some.inj h
          exact hr_sub _ rfl (J17)
set_option maxRecDepth 20000 in
set_option maxHeartbeats 4000000 in
theorem okX21_moveBlock (l : Launch) (E : hc_E) (A : Nat → Prop) (d : Nat) (n : Nat) (hD : 3 ≤ d) {x1 : Int32} {x2 : Int32} {x3 : Int32} {x4 : Int32} {σ : hc_St} {r : hc_St} (h : fm_X21_moveBlock n x1 x2 x3 x4 σ = some r) (am : Nat → Nat → Nat) : hc_M l hc_V0 yX21_moveBlock (ws_ yX21_moveBlock cX21_moveBlock 6 none) d E A [.ref (E.2.1 23), .int x1, .int x2, .int x3, .int x4] am [] σ (.inl none) r := by
  have hd1 : 1 ≤ d := by omega
  refine hc_enter2 (own := RX21) [(0, .ref (E.2.1 23)), (1, .int x1), (2, .int x2), (3, .int x3), (4, .int x4)] pl_X21 rfl hc_V0_st hc_G0_nd rfl (Nat.le_of_ble_eq_true rfl) (fun X hC hem => ?_)
  unfold fm_X21_moveBlock at h
  refine hr_iload_n hC dX21_moveBlock_0 rfl ?_
  refine hr_if_lt (x := _) hC 10 dX21_moveBlock_1 (by decide) (fun c2 => ?_) (fun c2 => ?_)
  · rw [if_pos c2] at h
    refine hr_aload_n hC dX21_moveBlock_10 rfl ?_
    refine hr_iconst (v := 2) hC dX21_moveBlock_11 rfl ?_
    obtain ⟨r3, e4, h⟩ := hx_bind h
    refine hs_callV0 hC 23 [_] _ dX21_moveBlock_12 q3587 q3589 qs281 q335 q3590 np_X21 rfl OB_23 pd_X21_stop (Nat.le_of_ble_eq_true rfl) hd1 (okX21_stop l E A (d - 1)  (by omega)  e4 am) rfl ?_
    obtain rfl := Option.some.inj h
    exact hr_vret hC dX21_moveBlock_15
  · rw [if_neg c2] at h
    refine hr_iload_n hC dX21_moveBlock_4 rfl ?_
    refine hr_bipush (v := 7) hC dX21_moveBlock_5 rfl ?_
    refine hr_icmp_le (x := _) hC 16 dX21_moveBlock_7 (by decide) (fun c8 => ?_) (fun c8 => ?_)
    · rw [if_pos c8] at h
      refine hr_iconst (v := 0) hC dX21_moveBlock_16 rfl ?_
      refine hr_istore hC dX21_moveBlock_17 (by decide) ?_
      obtain ⟨r25, e26, h⟩ := hx_bind h
      refine hr_sub _ rfl (ll_X21_moveBlock_19 n hD hem hC n _ _ _ _ _ _ _ am e26 ?_)
      refine hr_aload_n hC dX21_moveBlock_88 rfl ?_
      refine hr_iconst (v := 0) hC dX21_moveBlock_89 rfl ?_
      obtain ⟨r30, e31, h⟩ := hx_bind h
      refine hs_callV0 hC 23 [_] _ dX21_moveBlock_90 q3651 q3653 qs297 q335 q3654 np_X21 rfl OB_23 pd_X21_done (Nat.le_of_ble_eq_true rfl) hd1 (okX21_done l E A (d - 1)  (by omega)  e31 am) rfl ?_
      obtain rfl := Option.some.inj h
      exact hr_vret hC dX21_moveBlock_93
    · rw [if_neg c8] at h
      refine hr_aload_n hC dX21_moveBlock_10 rfl ?_
      refine hr_iconst (v := 2) hC dX21_moveBlock_11 rfl ?_
      obtain ⟨r34, e35, h⟩ := hx_bind h
      refine hs_callV0 hC 23 [_] _ dX21_moveBlock_12 q3587 q3589 qs281 q335 q3590 np_X21 rfl OB_23 pd_X21_stop (Nat.le_of_ble_eq_true rfl) hd1 (okX21_stop l E A (d - 1)  (by omega)  e35 am) rfl ?_
      obtain rfl := Option.some.inj h
      exact hr_vret hC dX21_moveBlock_15
