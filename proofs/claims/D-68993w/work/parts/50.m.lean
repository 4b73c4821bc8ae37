set_option maxRecDepth 20000
/-- HomeCompilerModel.piece()V -/
def fm_X21_piece (n : Nat) (k0 : Nat)  (σ : hc_St) : Option (Nat × Int32 × hc_St) := Option.bind (fm_X21_isKey 3 σ) fun r1 => if r1 = 0 then (Option.bind (fm_X21_isType  σ) fun r7 => Option.bind (α := Int32) (if r7 = 0 then (Option.bind (fm_X21_isKey 2 σ) fun r17 => if r17 = 0 then (some (0)) else (some (1))) else (some (1))) fun r13 => Option.bind (fm_X21_need r13 σ) fun r23 => ht r23 <| hk (inb ((gI r23.2.2 23 15)) (gL r23.2.2 23 14)) <| hk (inb ((((gI r23.2.2 23 15)) + 1)) (gL r23.2.2 23 13)) <| Option.bind (α := Int32) (if (gC r23.2.2 23 13 ((((gI r23.2.2 23 15)) + 1))).toInt8.toInt32 = 1 then (Option.bind (fm_X21_isAt ((((gI r23.2.2 23 15)) + 2)) 74 r23.2.2) fun r36 => if r36 = 0 then (some (0)) else (some (1))) else (some (0))) fun r32 => if r32 = 0 then (if (gC r23.2.2 23 14 ((gI r23.2.2 23 15))) = 2 then (hl (pI r23.2.2 23 15 ((((gI r23.2.2 23 15)) + 1))) fun σ75 => Option.bind (fm_X21_name  σ75) fun r76 => ht r76 <| Option.bind (fm_X21_is 74 r76.2.2) fun r81 => Option.bind (fm_X21_need r81 r76.2.2) fun r85 => ht r85 <| Option.bind (fm_X21_functionText n k0 ((gC r23.2.2 23 14 ((gI r23.2.2 23 15)))) r76.2.1 r85.2.2) fun r90 => ht r90 <| some (0, 0, r90.2.2)) else (Option.bind (fm_X21_declaration n k0 r23.2.2) fun r66 => ht r66 <| Option.bind (fm_X21_add r66.2.1 r66.2.2) fun r71 => some (0, 0, r71))) else (hl (pI r23.2.2 23 15 ((((gI r23.2.2 23 15)) + 1))) fun σ44 => Option.bind (fm_X21_name  σ44) fun r45 => ht r45 <| Option.bind (fm_X21_is 74 r45.2.2) fun r50 => Option.bind (fm_X21_need r50 r45.2.2) fun r54 => ht r54 <| Option.bind (fm_X21_functionText n k0 ((gC r23.2.2 23 14 ((gI r23.2.2 23 15)))) r45.2.1 r54.2.2) fun r59 => ht r59 <| some (0, 0, r59.2.2))) else (Option.bind (fm_X21_enumeration n k0 σ) fun r95 => ht r95 <| some (0, 0, r95.2.2))
set_option maxRecDepth 20000 in
set_option maxHeartbeats 4000000 in
theorem okX21_piece (l : Launch) (E : hc_E) (A : Nat → Prop) (d : Nat) (n : Nat) (k0 : Nat) (hD : 2 * k0 + 24 ≤ d)  {σ : hc_St} {r : (Nat × Int32 × hc_St)} (h : fm_X21_piece n k0  σ = some r) (am : Nat → Nat → Nat) : hc_M l hc_V0 yX21_piece (ws_ yX21_piece cX21_piece 4 none) d E A [.ref (E.2.1 23)] am [] σ (hc_ot (fun v => none) r) r.2.2 := by
  have hd1 : 1 ≤ d := by omega
  have hd8 : 9 ≤ d := by omega
  have hd12 : 12 ≤ d := by omega
  refine hc_enter2 (own := RX21) [(0, .ref (E.2.1 23))] pl_X21 rfl hc_V0_st hc_G0_nd rfl (Nat.le_of_ble_eq_true rfl) (fun X hC hem => ?_)
  have HX := fun z => hc_CX hC z
  unfold fm_X21_piece at h
  refine hr_aload_n hC dX21_piece_0 rfl ?_
  refine hr_iconst (v := 3) hC dX21_piece_1 rfl ?_
  obtain ⟨r1, e2, h⟩ := hx_bind h
  refine hs_callV0 hC 23 [_] _ dX21_piece_2 q3186 q3188 qs186 q335 q3189 np_X21 rfl OB_23 pd_X21_isKey (Nat.le_of_ble_eq_true rfl) hd1 (okX21_isKey l E A (d - 1)  (by omega)  e2 am) rfl ?_
  refine hr_if_eq (x := _) hC 13 dX21_piece_5 (by decide) (fun c6 => ?_) (fun c6 => ?_)
  · rw [if_pos c6] at h
    refine hr_aload_n hC dX21_piece_13 rfl ?_
    refine hr_aload_n hC dX21_piece_14 rfl ?_
    obtain ⟨r7, e8, h⟩ := hx_bind h
    refine hs_callV0 hC 23 [] _ dX21_piece_15 q3310 q3312 qs214 q335 q3313 np_X21 rfl OB_23 pd_X21_isType (Nat.le_of_ble_eq_true rfl) hd1 (okX21_isType l E A (d - 1)  (by omega)  e8 am) rfl ?_
    obtain ⟨r13, e14, h⟩ := hx_bind h
    have J15 : hc_At hc_V0 E 4 X 34 [(0, .ref (E.2.1 23))] [.int r13, .ref (E.2.1 23)] σ am [] := by
      obtain ⟨r23, e24, h⟩ := hx_bind h
      by_cases z27 : r23.1 = 0
      · rw [ht_0 z27] at h
        refine hs_callV0 hC 23 [_] _ dX21_piece_34 q3218 q3220 qs192 q335 q3221 np_X21 rfl OB_23 pd_X21_need (Nat.le_of_ble_eq_true rfl) hd1 (hc_M0 (r := r23) (okX21_need l E A (d - 1)  (by omega)  e24 am) z27) rfl ?_
        refine hr_aload_n hC dX21_piece_37 rfl ?_
        refine hr_gA hC F23_14 rfl dX21_piece_38 q2856 ?_
        refine hr_aload_n hC dX21_piece_41 rfl ?_
        refine hr_gI hC F23_15 dX21_piece_42 q2857 ?_
        obtain ⟨c28, h⟩ := hk_ok h
        refine hs_iald hC A23_14 c28 dX21_piece_45 ?_
        refine hr_istore_n hC dX21_piece_46 (by decide) ?_
        refine hr_aload_n hC dX21_piece_47 rfl ?_
        refine hr_gA hC F23_13 rfl dX21_piece_48 q2855 ?_
        refine hr_aload_n hC dX21_piece_51 rfl ?_
        refine hr_gI hC F23_15 dX21_piece_52 q2857 ?_
        refine hr_iconst (v := 1) hC dX21_piece_55 rfl ?_
        refine hr_iadd hC dX21_piece_56 ?_
        obtain ⟨c29, h⟩ := hk_ok h
        refine hs_bald hC A23_13 c29 dX21_piece_57 ?_
        refine hr_iconst (v := 1) hC dX21_piece_58 rfl ?_
        obtain ⟨r32, e33, h⟩ := hx_bind h
        have J34 : hc_At hc_V0 E 4 X 82 [(0, .ref (E.2.1 23)), (1, .int (gC r23.2.2 23 14 ((gI r23.2.2 23 15))))] [.int r32] r23.2.2 am [] := by
          refine hr_istore_n hC dX21_piece_82 (by decide) ?_
          refine hr_iload_n hC dX21_piece_83 rfl ?_
          refine hr_if_ne (x := _) hC 92 dX21_piece_84 (by decide) (fun c43 => ?_) (fun c43 => ?_)
          · rw [if_neg c43] at h
            refine hr_aload_n hC dX21_piece_92 rfl ?_
            refine hr_dup hC dX21_piece_93 rfl ?_
            refine hr_gI hC F23_15 dX21_piece_94 q2857 ?_
            refine hr_iconst (v := 1) hC dX21_piece_97 rfl ?_
            refine hr_iadd hC dX21_piece_98 ?_
            obtain ⟨σ44, hσ44, h⟩ := hl_ok h
            refine hr_pI hC F23_15 PX21_15 dX21_piece_99 q2857 ?_
            rw [← hσ44]
            refine hr_aload_n hC dX21_piece_102 rfl ?_
            obtain ⟨r45, e46, h⟩ := hx_bind h
            by_cases z49 : r45.1 = 0
            · rw [ht_0 z49] at h
              refine hs_callV0 hC 23 [] _ dX21_piece_103 q3227 q3229 qs194 q335 q3230 np_X21 rfl OB_23 pd_X21_name (Nat.le_of_ble_eq_true rfl) hd1 (hc_M0 (r := r45) (okX21_name l E A (d - 1)  (by omega)  e46 am) z49) rfl ?_
              refine hr_istore_n hC dX21_piece_106 (by decide) ?_
              refine hr_aload_n hC dX21_piece_107 rfl ?_
              refine hr_aload_n hC dX21_piece_108 rfl ?_
              refine hr_ldcs (v := 74) 74 hC dX21_piece_109 (List.mem_of_getElem? (i := 74) rfl) (by decide) rfl ?_
              obtain ⟨r50, e51, h⟩ := hx_bind h
              refine hs_callV0 hC 23 [_] _ dX21_piece_111 q3202 q3204 qs190 q335 q3205 np_X21 rfl OB_23 pd_X21_is (Nat.le_of_ble_eq_true rfl) hd1 (okX21_is l E A (d - 1)  (by omega)  e51 am) rfl ?_
              obtain ⟨r54, e55, h⟩ := hx_bind h
              by_cases z58 : r54.1 = 0
              · rw [ht_0 z58] at h
                refine hs_callV0 hC 23 [_] _ dX21_piece_114 q3218 q3220 qs192 q335 q3221 np_X21 rfl OB_23 pd_X21_need (Nat.le_of_ble_eq_true rfl) hd1 (hc_M0 (r := r54) (okX21_need l E A (d - 1)  (by omega)  e55 am) z58) rfl ?_
                refine hr_aload_n hC dX21_piece_117 rfl ?_
                refine hr_iload_n hC dX21_piece_118 rfl ?_
                refine hr_iload_n hC dX21_piece_119 rfl ?_
                obtain ⟨r59, e60, h⟩ := hx_bind h
                by_cases z63 : r59.1 = 0
                · rw [ht_0 z63] at h
                  refine hs_callV0 hC 23 [_, _] _ dX21_piece_120 q3314 q3316 qs215 q335 q3317 np_X21 rfl OB_23 pd_X21_functionText (Nat.le_of_ble_eq_true rfl) hd1 (hc_M0 (r := r59) (okX21_functionText l E A (d - 1) n k0 (by omega)  e60 am) z63) rfl ?_
                  obtain rfl := Option.some.inj h
                  exact hr_vret hC dX21_piece_123
                · rw [ht_1 z63] at h
                  obtain rfl := Option.some.inj h
                  exact hs_callVx (HX z63) hem 23 [_, _] _ dX21_piece_120 q3314 q3316 qs215 q335 q3317 np_X21 rfl OB_23 pd_X21_functionText (Nat.le_of_ble_eq_true rfl) hd1 (hc_M1 (r := r59) (okX21_functionText l E A (d - 1) n k0 (by omega)  e60 am) z63) (hc_rb rfl) rfl
              · rw [ht_1 z58] at h
                obtain rfl := Option.some.inj h
                exact hs_callVx (HX z58) hem 23 [_] _ dX21_piece_114 q3218 q3220 qs192 q335 q3221 np_X21 rfl OB_23 pd_X21_need (Nat.le_of_ble_eq_true rfl) hd1 (hc_M1 (r := r54) (okX21_need l E A (d - 1)  (by omega)  e55 am) z58) (hc_rb rfl) rfl
            · rw [ht_1 z49] at h
              obtain rfl := Option.some.inj h
              exact hs_callVx (HX z49) hem 23 [] _ dX21_piece_103 q3227 q3229 qs194 q335 q3230 np_X21 rfl OB_23 pd_X21_name (Nat.le_of_ble_eq_true rfl) hd1 (hc_M1 (r := r45) (okX21_name l E A (d - 1)  (by omega)  e46 am) z49) (hc_rb rfl) rfl
          · rw [if_pos c43] at h
            refine hr_iload_n hC dX21_piece_87 rfl ?_
            refine hr_iconst (v := 2) hC dX21_piece_88 rfl ?_
            refine hr_icmp_ne (x := _) hC 124 dX21_piece_89 (by decide) (fun c65 => ?_) (fun c65 => ?_)
            · rw [if_neg c65] at h
              refine hr_aload_n hC dX21_piece_124 rfl ?_
              refine hr_aload_n hC dX21_piece_125 rfl ?_
              obtain ⟨r66, e67, h⟩ := hx_bind h
              by_cases z70 : r66.1 = 0
              · rw [ht_0 z70] at h
                refine hs_callV0 hC 23 [] _ dX21_piece_126 q3330 q3332 qs219 q335 q3333 np_X21 rfl OB_23 pd_X21_declaration (Nat.le_of_ble_eq_true rfl) hd1 (hc_M0 (r := r66) (okX21_declaration l E A (d - 1) n k0 (by omega)  e67 am) z70) rfl ?_
                obtain ⟨r71, e72, h⟩ := hx_bind h
                refine hs_callV0 hC 23 [_] _ dX21_piece_129 q3306 q3308 qs213 q335 q3309 np_X21 rfl OB_23 pd_X21_add (Nat.le_of_ble_eq_true rfl) hd1 (okX21_add l E A (d - 1)  (by omega)  e72 am) rfl ?_
                obtain rfl := Option.some.inj h
                exact hr_vret hC dX21_piece_132
              · rw [ht_1 z70] at h
                obtain rfl := Option.some.inj h
                exact hs_callVx (HX z70) hem 23 [] _ dX21_piece_126 q3330 q3332 qs219 q335 q3333 np_X21 rfl OB_23 pd_X21_declaration (Nat.le_of_ble_eq_true rfl) hd1 (hc_M1 (r := r66) (okX21_declaration l E A (d - 1) n k0 (by omega)  e67 am) z70) (hc_rb rfl) rfl
            · rw [if_pos c65] at h
              refine hr_aload_n hC dX21_piece_92 rfl ?_
              refine hr_dup hC dX21_piece_93 rfl ?_
              refine hr_gI hC F23_15 dX21_piece_94 q2857 ?_
              refine hr_iconst (v := 1) hC dX21_piece_97 rfl ?_
              refine hr_iadd hC dX21_piece_98 ?_
              obtain ⟨σ75, hσ75, h⟩ := hl_ok h
              refine hr_pI hC F23_15 PX21_15 dX21_piece_99 q2857 ?_
              rw [← hσ75]
              refine hr_aload_n hC dX21_piece_102 rfl ?_
              obtain ⟨r76, e77, h⟩ := hx_bind h
              by_cases z80 : r76.1 = 0
              · rw [ht_0 z80] at h
                refine hs_callV0 hC 23 [] _ dX21_piece_103 q3227 q3229 qs194 q335 q3230 np_X21 rfl OB_23 pd_X21_name (Nat.le_of_ble_eq_true rfl) hd1 (hc_M0 (r := r76) (okX21_name l E A (d - 1)  (by omega)  e77 am) z80) rfl ?_
                refine hr_istore_n hC dX21_piece_106 (by decide) ?_
                refine hr_aload_n hC dX21_piece_107 rfl ?_
                refine hr_aload_n hC dX21_piece_108 rfl ?_
                refine hr_ldcs (v := 74) 74 hC dX21_piece_109 (List.mem_of_getElem? (i := 74) rfl) (by decide) rfl ?_
                obtain ⟨r81, e82, h⟩ := hx_bind h
                refine hs_callV0 hC 23 [_] _ dX21_piece_111 q3202 q3204 qs190 q335 q3205 np_X21 rfl OB_23 pd_X21_is (Nat.le_of_ble_eq_true rfl) hd1 (okX21_is l E A (d - 1)  (by omega)  e82 am) rfl ?_
                obtain ⟨r85, e86, h⟩ := hx_bind h
                by_cases z89 : r85.1 = 0
                · rw [ht_0 z89] at h
                  refine hs_callV0 hC 23 [_] _ dX21_piece_114 q3218 q3220 qs192 q335 q3221 np_X21 rfl OB_23 pd_X21_need (Nat.le_of_ble_eq_true rfl) hd1 (hc_M0 (r := r85) (okX21_need l E A (d - 1)  (by omega)  e86 am) z89) rfl ?_
                  refine hr_aload_n hC dX21_piece_117 rfl ?_
                  refine hr_iload_n hC dX21_piece_118 rfl ?_
                  refine hr_iload_n hC dX21_piece_119 rfl ?_
                  obtain ⟨r90, e91, h⟩ := hx_bind h
                  by_cases z94 : r90.1 = 0
                  · rw [ht_0 z94] at h
                    refine hs_callV0 hC 23 [_, _] _ dX21_piece_120 q3314 q3316 qs215 q335 q3317 np_X21 rfl OB_23 pd_X21_functionText (Nat.le_of_ble_eq_true rfl) hd1 (hc_M0 (r := r90) (okX21_functionText l E A (d - 1) n k0 (by omega)  e91 am) z94) rfl ?_
                    obtain rfl := Option.some.inj h
                    exact hr_vret hC dX21_piece_123
                  · rw [ht_1 z94] at h
                    obtain rfl := Option.some.inj h
                    exact hs_callVx (HX z94) hem 23 [_, _] _ dX21_piece_120 q3314 q3316 qs215 q335 q3317 np_X21 rfl OB_23 pd_X21_functionText (Nat.le_of_ble_eq_true rfl) hd1 (hc_M1 (r := r90) (okX21_functionText l E A (d - 1) n k0 (by omega)  e91 am) z94) (hc_rb rfl) rfl
                · rw [ht_1 z89] at h
                  obtain rfl := Option.some.inj h
                  exact hs_callVx (HX z89) hem 23 [_] _ dX21_piece_114 q3218 q3220 qs192 q335 q3221 np_X21 rfl OB_23 pd_X21_need (Nat.le_of_ble_eq_true rfl) hd1 (hc_M1 (r := r85) (okX21_need l E A (d - 1)  (by omega)  e86 am) z89) (hc_rb rfl) rfl
              · rw [ht_1 z80] at h
                obtain rfl := Option.some.inj h
                exact hs_callVx (HX z80) hem 23 [] _ dX21_piece_103 q3227 q3229 qs194 q335 q3230 np_X21 rfl OB_23 pd_X21_name (Nat.le_of_ble_eq_true rfl) hd1 (hc_M1 (r := r76) (okX21_name l E A (d - 1)  (by omega)  e77 am) z80) (hc_rb rfl) rfl
        clear h
        have h := e33
        refine hr_icmp_ne (x := _) hC 81 dX21_piece_59 (by decide) (fun c31 => ?_) (fun c31 => ?_)
        · rw [if_neg c31] at h
          refine hr_iconst (v := 0) hC dX21_piece_81 rfl ?_
          obtain rfl := Option.some.inj h
          exact hr_sub _ rfl (J34)
        · rw [if_pos c31] at h
          refine hr_aload_n hC dX21_piece_62 rfl ?_
          refine hr_aload_n hC dX21_piece_63 rfl ?_
          refine hr_gI hC F23_15 dX21_piece_64 q2857 ?_
          refine hr_iconst (v := 2) hC dX21_piece_67 rfl ?_
          refine hr_iadd hC dX21_piece_68 ?_
          refine hr_ldcs (v := 74) 74 hC dX21_piece_69 (List.mem_of_getElem? (i := 74) rfl) (by decide) rfl ?_
          obtain ⟨r36, e37, h⟩ := hx_bind h
          refine hs_callV0 hC 23 [_, _] _ dX21_piece_71 q3206 q3208 qs191 q335 q3209 np_X21 rfl OB_23 pd_X21_isAt (Nat.le_of_ble_eq_true rfl) hd1 (okX21_isAt l E A (d - 1)  (by omega)  e37 am) rfl ?_
          refine hr_if_eq (x := _) hC 81 dX21_piece_74 (by decide) (fun c41 => ?_) (fun c41 => ?_)
          · rw [if_pos c41] at h
            refine hr_iconst (v := 0) hC dX21_piece_81 rfl ?_
            obtain rfl := Option.some.inj h
            exact hr_sub _ rfl (J34)
          · rw [if_neg c41] at h
            refine hr_iconst (v := 1) hC dX21_piece_77 rfl ?_
            refine hr_goto hC 82 dX21_piece_78 (by decide) ?_
            obtain rfl := Option.some.inj h
            exact hr_sub _ rfl (J34)
      · rw [ht_1 z27] at h
        obtain rfl := Option.some.inj h
        exact hs_callVx (HX z27) hem 23 [_] _ dX21_piece_34 q3218 q3220 qs192 q335 q3221 np_X21 rfl OB_23 pd_X21_need (Nat.le_of_ble_eq_true rfl) hd1 (hc_M1 (r := r23) (okX21_need l E A (d - 1)  (by omega)  e24 am) z27) (hc_rb rfl) rfl
    clear h
    have h := e14
    refine hr_if_ne (x := _) hC 29 dX21_piece_18 (by decide) (fun c12 => ?_) (fun c12 => ?_)
    · rw [if_neg c12] at h
      refine hr_iconst (v := 1) hC dX21_piece_29 rfl ?_
      refine hr_goto hC 34 dX21_piece_30 (by decide) ?_
      obtain rfl := Option.some.inj h
      exact hr_sub _ rfl (J15)
    · rw [if_pos c12] at h
      refine hr_aload_n hC dX21_piece_21 rfl ?_
      refine hr_iconst (v := 2) hC dX21_piece_22 rfl ?_
      obtain ⟨r17, e18, h⟩ := hx_bind h
      refine hs_callV0 hC 23 [_] _ dX21_piece_23 q3186 q3188 qs186 q335 q3189 np_X21 rfl OB_23 pd_X21_isKey (Nat.le_of_ble_eq_true rfl) hd1 (okX21_isKey l E A (d - 1)  (by omega)  e18 am) rfl ?_
      refine hr_if_eq (x := _) hC 33 dX21_piece_26 (by decide) (fun c22 => ?_) (fun c22 => ?_)
      · rw [if_pos c22] at h
        refine hr_iconst (v := 0) hC dX21_piece_33 rfl ?_
        obtain rfl := Option.some.inj h
        exact hr_sub _ rfl (J15)
      · rw [if_neg c22] at h
        refine hr_iconst (v := 1) hC dX21_piece_29 rfl ?_
        refine hr_goto hC 34 dX21_piece_30 (by decide) ?_
        obtain rfl := Option.some.inj h
        exact hr_sub _ rfl (J15)
  · rw [if_neg c6] at h
    refine hr_aload_n hC dX21_piece_8 rfl ?_
    obtain ⟨r95, e96, h⟩ := hx_bind h
    by_cases z99 : r95.1 = 0
    · rw [ht_0 z99] at h
      refine hs_callV0 hC 23 [] _ dX21_piece_9 q3190 q3192 qs187 q335 q3193 np_X21 rfl OB_23 pd_X21_enumeration (Nat.le_of_ble_eq_true rfl) hd1 (hc_M0 (r := r95) (okX21_enumeration l E A (d - 1) n k0 (by omega)  e96 am) z99) rfl ?_
      obtain rfl := Option.some.inj h
      exact hr_vret hC dX21_piece_12
    · rw [ht_1 z99] at h
      obtain rfl := Option.some.inj h
      exact hs_callVx (HX z99) hem 23 [] _ dX21_piece_9 q3190 q3192 qs187 q335 q3193 np_X21 rfl OB_23 pd_X21_enumeration (Nat.le_of_ble_eq_true rfl) hd1 (hc_M1 (r := r95) (okX21_enumeration l E A (d - 1) n k0 (by omega)  e96 am) z99) (hc_rb rfl) rfl
def lp_X21_whole_0 (n : Nat) (k0 : Nat) : Nat → hc_St → Option (Nat × hc_St × Int32)
  | 0, _ => none
  | m + 1, σ => hk (inb ((gI σ 23 15)) (gL σ 23 13)) <| if (gC σ 23 13 ((gI σ 23 15))).toInt8.toInt32 = 7 then (some (0, σ, 0)) else (Option.bind (fm_X21_piece n k0 σ) fun r4 => hv r4 (0) <| lp_X21_whole_0 n k0 m  r4.2.2)
/-- HomeCompilerModel.whole()V -/
def fm_X21_whole (n : Nat) (k0 : Nat)  (σ : hc_St) : Option (Nat × Int32 × hc_St) := Option.bind (lp_X21_whole_0 n k0 n  σ) fun r9 => hu r9 <| some (0, 0, r9.2.1)
set_option maxRecDepth 20000 in
set_option maxHeartbeats 4000000 in
theorem ll_X21_whole_0 {l : Launch} {E : hc_E} {A : Nat → Prop} {am : Nat → Nat → Nat} {d : Nat} {X : hc_X} (n : Nat) (k0 : Nat) (hD : 2 * k0 + 25 ≤ d) (hem : X.2.2.2.2.2.2.2.2.2.1.exceptionTable.isEmpty = true) {oc : hc_Oc} {σe : hc_St} (hC : hc_C hc_V0 E cX21_whole 1 RX21 none d oc σe (l, A, am, []) X) : ∀ (m : Nat) (σ : hc_St)  (rl : Nat × hc_St × Int32) (am1 : Nat → Nat → Nat), lp_X21_whole_0 n k0 m  σ = some rl → (rl.1 = 0 → hc_At hc_V0 E 1 X 21 [] [] rl.2.1 am1 []) → (rl.1 ≠ 0 → hc_C hc_V0 E cX21_whole 1 RX21 none d (.inr rl.1) rl.2.1 (l, A, am, []) X) → hc_At hc_V0 E 1 X 0 [(0, .ref (E.2.1 23))] [] σ am1 [] := by
  have hd1 : 1 ≤ d := by omega
  have hd8 : 9 ≤ d := by omega
  have hd12 : 12 ≤ d := by omega
  intro m
  induction m with
  | zero =>
    intro σ  rl am1 h
    cases h
  | succ m ih =>
    intro σ  rl am1 h JX HX
    rw [lp_X21_whole_0] at h
    refine hr_aload_n hC dX21_whole_0 rfl ?_
    refine hr_gA hC F23_13 rfl dX21_whole_1 q2855 ?_
    refine hr_aload_n hC dX21_whole_4 rfl ?_
    refine hr_gI hC F23_15 dX21_whole_5 q2857 ?_
    obtain ⟨c1, h⟩ := hk_ok h
    refine hs_bald hC A23_13 c1 dX21_whole_8 ?_
    refine hr_bipush (v := 7) hC dX21_whole_9 rfl ?_
    refine hr_icmp_eq (x := _) hC 21 dX21_whole_11 (by decide) (fun c3 => ?_) (fun c3 => ?_)
    · rw [if_pos c3] at h
      obtain rfl := Option.some.inj h
      exact hr_sub _ rfl (JX rfl)
    · rw [if_neg c3] at h
      refine hr_aload_n hC dX21_whole_14 rfl ?_
      obtain ⟨r4, e5, h⟩ := hx_bind h
      by_cases z8 : r4.1 = 0
      · rw [hv_0 z8] at h
        refine hs_callV0 hC 23 [] _ dX21_whole_15 q3182 q3184 qs185 q335 q3185 np_X21 rfl OB_23 pd_X21_piece (Nat.le_of_ble_eq_true rfl) hd1 (hc_M0 (r := r4) (okX21_piece l E A (d - 1) n k0 (by omega)  e5 am1) z8) rfl ?_
        refine hr_goto hC 0 dX21_whole_18 (by decide) ?_
        exact hr_sub _ rfl (ih _  _ am1 h JX HX)
      · rw [hv_1 z8] at h
        obtain rfl := Option.some.inj h
        exact hs_callVx (HX z8) hem 23 [] _ dX21_whole_15 q3182 q3184 qs185 q335 q3185 np_X21 rfl OB_23 pd_X21_piece (Nat.le_of_ble_eq_true rfl) hd1 (hc_M1 (r := r4) (okX21_piece l E A (d - 1) n k0 (by omega)  e5 am1) z8) (hc_rb rfl) rfl
set_option maxRecDepth 20000 in
set_option maxHeartbeats 4000000 in
theorem okX21_whole (l : Launch) (E : hc_E) (A : Nat → Prop) (d : Nat) (n : Nat) (k0 : Nat) (hD : 2 * k0 + 25 ≤ d)  {σ : hc_St} {r : (Nat × Int32 × hc_St)} (h : fm_X21_whole n k0  σ = some r) (am : Nat → Nat → Nat) : hc_M l hc_V0 yX21_whole (ws_ yX21_whole cX21_whole 1 none) d E A [.ref (E.2.1 23)] am [] σ (hc_ot (fun v => none) r) r.2.2 := by
  have hd1 : 1 ≤ d := by omega
  have hd8 : 9 ≤ d := by omega
  have hd12 : 12 ≤ d := by omega
  refine hc_enter2 (own := RX21) [(0, .ref (E.2.1 23))] pl_X21 rfl hc_V0_st hc_G0_nd rfl (Nat.le_of_ble_eq_true rfl) (fun X hC hem => ?_)
  have HX := fun z => hc_CX hC z
  unfold fm_X21_whole at h
  obtain ⟨r9, e10, h⟩ := hx_bind h
  refine hr_sub _ rfl (ll_X21_whole_0 n k0 hD hem hC n _  _ am e10 (fun z12 => ?_) (fun z12 => ?_))
  · rw [hu_0 z12] at h
    obtain rfl := Option.some.inj h
    exact hr_vret hC dX21_whole_21
  · rw [hu_1 z12] at h
    obtain rfl := Option.some.inj h
    exact HX z12
/-- HomeCompilerModel.isNamed(ILjava/lang/String;)Z -/
def fm_X21_isNamed (n : Nat) (x1 : Int32) (x2 : Int32) (σ : hc_St) : Option Int32 := hk (inb x1 (gL σ 23 12)) <| hk (hsi x2) <| Option.bind (α := Int32) (if (gC σ 23 12 x1) = (sLen x2) then (hk (inb x1 (gL σ 23 11)) <| Option.bind (fm_X21_stands n ((gC σ 23 11 x1)) x2 σ) fun r10 => if r10 = 0 then (some (0)) else (some (1))) else (some (0))) fun r5 => hk (hb01 r5) <| some r5
set_option maxRecDepth 20000 in
set_option maxHeartbeats 4000000 in
theorem okX21_isNamed (l : Launch) (E : hc_E) (A : Nat → Prop) (d : Nat) (n : Nat) (hD : 10 ≤ d) {x1 : Int32} {x2 : Int32} {σ : hc_St} {r : Int32} (h : fm_X21_isNamed n x1 x2 σ = some r) (am : Nat → Nat → Nat) : hc_M l hc_V0 yX21_isNamed (ws_ yX21_isNamed cX21_isNamed 3 (some .boolean)) d E A [.ref (E.2.1 23), .int x1, .ref (E.2.2.2.1 (x2 : Int32).toNatClampNeg)] am [] σ (.inl (some (.int r))) σ := by
  have hd1 : 1 ≤ d := by omega
  have hd8 : 9 ≤ d := by omega
  refine hc_enter2 (own := RX21) [(0, .ref (E.2.1 23)), (1, .int x1), (2, .ref (E.2.2.2.1 (x2 : Int32).toNatClampNeg))] pl_X21 rfl hc_V0_st hc_G0_nd rfl (Nat.le_of_ble_eq_true rfl) (fun X hC hem => ?_)
  unfold fm_X21_isNamed at h
  refine hr_aload_n hC dX21_isNamed_0 rfl ?_
  refine hr_gA hC F23_12 rfl dX21_isNamed_1 q2854 ?_
  refine hr_iload_n hC dX21_isNamed_4 rfl ?_
  obtain ⟨c1, h⟩ := hk_ok h
  refine hs_iald hC A23_12 c1 dX21_isNamed_5 ?_
  refine hr_aload_n hC dX21_isNamed_6 rfl ?_
  obtain ⟨c2, h⟩ := hk_ok h
  refine hr_slen hC c2 dX21_isNamed_7 q3145 hd8 (Nat.le_of_ble_eq_true rfl) ?_
  obtain ⟨r5, e6, h⟩ := hx_bind h
  have J7 : hc_At hc_V0 E 3 X 32 [] [.int r5] σ am [] := by
    obtain ⟨c16, h⟩ := hk_ok h
    obtain rfl := Option.some.inj h
    exact hr_zret hC (hb01_n c16) dX21_isNamed_32
  clear h
  have h := e6
  refine hr_icmp_ne (x := _) hC 31 dX21_isNamed_10 (by decide) (fun c4 => ?_) (fun c4 => ?_)
  · rw [if_neg c4] at h
    refine hr_iconst (v := 0) hC dX21_isNamed_31 rfl ?_
    obtain rfl := Option.some.inj h
    exact hr_sub _ rfl (J7)
  · rw [if_pos c4] at h
    refine hr_aload_n hC dX21_isNamed_13 rfl ?_
    refine hr_aload_n hC dX21_isNamed_14 rfl ?_
    refine hr_gA hC F23_11 rfl dX21_isNamed_15 q2853 ?_
    refine hr_iload_n hC dX21_isNamed_18 rfl ?_
    obtain ⟨c9, h⟩ := hk_ok h
    refine hs_iald hC A23_11 c9 dX21_isNamed_19 ?_
    refine hr_aload_n hC dX21_isNamed_20 rfl ?_
    obtain ⟨r10, e11, h⟩ := hx_bind h
    refine hs_callV0 hC 23 [_, _] _ dX21_isNamed_21 q3146 q3148 qs178 q335 q3149 np_X21 rfl OB_23 pd_X21_stands (Nat.le_of_ble_eq_true rfl) hd1 (okX21_stands l E A (d - 1) n (by omega)  e11 am) rfl ?_
    refine hr_if_eq (x := _) hC 31 dX21_isNamed_24 (by decide) (fun c15 => ?_) (fun c15 => ?_)
    · rw [if_pos c15] at h
      refine hr_iconst (v := 0) hC dX21_isNamed_31 rfl ?_
      obtain rfl := Option.some.inj h
      exact hr_sub _ rfl (J7)
    · rw [if_neg c15] at h
      refine hr_iconst (v := 1) hC dX21_isNamed_27 rfl ?_
      refine hr_goto hC 32 dX21_isNamed_28 (by decide) ?_
      obtain rfl := Option.some.inj h
      exact hr_sub _ rfl (J7)
def lp_X21_findOwn_2 (n : Nat) : Nat → Int32 → Int32 → hc_St → Option Int32
  | 0, _, _, _ => none
  | m + 1, y1, y2, σ => hl (α := Int32) ((if (gI σ 23 9) = 0 then 10 else 15)) fun v3 => if v3 ≤ y2 then (some ((-1))) else (hk (inb y2 (gL σ 23 2)) <| Option.bind (fm_X21_isNamed n y1 ((gC σ 23 2 y2)) σ) fun r7 => if r7 = 0 then (lp_X21_findOwn_2 n m y1 ((y2 + 1)) σ) else (some y2))
/-- HomeCompilerModel.findOwn(I)I -/
def fm_X21_findOwn (n : Nat) (x1 : Int32) (σ : hc_St) : Option Int32 := lp_X21_findOwn_2 n n x1 0 σ
set_option maxRecDepth 20000 in
set_option maxHeartbeats 4000000 in
theorem ll_X21_findOwn_2 {l : Launch} {E : hc_E} {A : Nat → Prop} {am : Nat → Nat → Nat} {d : Nat} {X : hc_X} (n : Nat) (hD : 11 ≤ d) (hem : X.2.2.2.2.2.2.2.2.2.1.exceptionTable.isEmpty = true) : ∀ (m : Nat) (σ : hc_St) (y1 : Int32) (y2 : Int32) (rl : Int32), lp_X21_findOwn_2 n m y1 y2 σ = some rl → hc_C hc_V0 E cX21_findOwn 3 RX21 (some .int) d (.inl (some (.int rl))) σ (l, A, am, []) X → ∀ am1, hc_At hc_V0 E 3 X 2 [(0, .ref (E.2.1 23)), (1, .int y1), (2, .int y2)] [] σ am1 [] := by
  have hd1 : 1 ≤ d := by omega
  have hd8 : 9 ≤ d := by omega
  intro m
  induction m with
  | zero =>
    intro σ y1 y2 rl h
    cases h
  | succ m ih =>
    intro σ y1 y2 rl h hC am1
    rw [lp_X21_findOwn_2] at h
    refine hr_iload_n hC dX21_findOwn_2 rfl ?_
    refine hr_aload_n hC dX21_findOwn_3 rfl ?_
    refine hr_gI hC F23_9 dX21_findOwn_4 q2851 ?_
    obtain ⟨v3, hv3, h⟩ := hl_ok h
    have J13 : ∀ w14 : Int32, (if (gI σ 23 9) = 0 then 10 else 15) = w14 → hc_At hc_V0 E 3 X 17 [(0, .ref (E.2.1 23)), (1, .int y1), (2, .int y2)] [.int w14, .int y2] σ am1 [] := by
      intro w14 hw14
      obtain rfl := hv3.trans hw14
      refine hr_icmp_ge (x := _) hC 42 dX21_findOwn_17 (by decide) (fun c5 => ?_) (fun c5 => ?_)
      · rw [if_pos c5] at h
        refine hr_iconst (v := (-1)) hC dX21_findOwn_42 rfl ?_
        obtain rfl := Option.some.inj h
        exact hr_iret hC dX21_findOwn_43
      · rw [if_neg c5] at h
        refine hr_aload_n hC dX21_findOwn_20 rfl ?_
        refine hr_iload_n hC dX21_findOwn_21 rfl ?_
        refine hr_aload_n hC dX21_findOwn_22 rfl ?_
        refine hr_gA hC F23_2 rfl dX21_findOwn_23 q2844 ?_
        refine hr_iload_n hC dX21_findOwn_26 rfl ?_
        obtain ⟨c6, h⟩ := hk_ok h
        refine hs_sald hC A23_2 c6 dX21_findOwn_27 ?_
        obtain ⟨r7, e8, h⟩ := hx_bind h
        refine hs_callV0 hC 23 [_, _] _ dX21_findOwn_28 q3386 q3388 qs233 q335 q3389 np_X21 rfl OB_23 pd_X21_isNamed (Nat.le_of_ble_eq_true rfl) hd1 (okX21_isNamed l E A (d - 1) n (by omega)  e8 am1) rfl ?_
        refine hr_if_eq (x := _) hC 36 dX21_findOwn_31 (by decide) (fun c12 => ?_) (fun c12 => ?_)
        · rw [if_pos c12] at h
          refine hr_iinc (v := y2 + 1) hC dX21_findOwn_36 rfl rfl (by decide) ?_
          refine hr_goto hC 2 dX21_findOwn_39 (by decide) ?_
          exact hr_sub _ rfl (ih _ _ _ _ h hC am1)
        · rw [if_neg c12] at h
          refine hr_iload_n hC dX21_findOwn_34 rfl ?_
          obtain rfl := Option.some.inj h
          exact hr_iret hC dX21_findOwn_35
    refine hr_if_eq (x := _) hC 15 dX21_findOwn_7 (by decide) (fun c15 => ?_) (fun c15 => ?_)
    · refine hr_bipush (v := 10) hC dX21_findOwn_15 rfl ?_
      exact hr_sub _ rfl (J13 _ (by first | (rw [if_pos c15]; done) | (simp only [if_pos c15]; done) | rfl))
    · refine hr_bipush (v := 15) hC dX21_findOwn_10 rfl ?_
      refine hr_goto hC 17 dX21_findOwn_12 (by decide) ?_
      exact hr_sub _ rfl (J13 _ (by first | (rw [if_neg c15]; done) | (simp only [if_neg c15]; done) | rfl))
set_option maxRecDepth 20000 in
set_option maxHeartbeats 4000000 in
theorem okX21_findOwn (l : Launch) (E : hc_E) (A : Nat → Prop) (d : Nat) (n : Nat) (hD : 11 ≤ d) {x1 : Int32} {σ : hc_St} {r : Int32} (h : fm_X21_findOwn n x1 σ = some r) (am : Nat → Nat → Nat) : hc_M l hc_V0 yX21_findOwn (ws_ yX21_findOwn cX21_findOwn 3 (some .int)) d E A [.ref (E.2.1 23), .int x1] am [] σ (.inl (some (.int r))) σ := by
  have hd1 : 1 ≤ d := by omega
  have hd8 : 9 ≤ d := by omega
  refine hc_enter2 (own := RX21) [(0, .ref (E.2.1 23)), (1, .int x1)] pl_X21 rfl hc_V0_st hc_G0_nd rfl (Nat.le_of_ble_eq_true rfl) (fun X hC hem => ?_)
  unfold fm_X21_findOwn at h
  refine hr_iconst (v := 0) hC dX21_findOwn_0 rfl ?_
  refine hr_istore_n hC dX21_findOwn_1 (by decide) ?_
  exact hr_sub _ rfl (ll_X21_findOwn_2 n hD hem n _ _ _ _ h hC am)
def lp_X21_sameName_24 (n : Nat) : Nat → Int32 → Int32 → Int32 → Int32 → hc_St → Option (Int32)
  | 0, _, _, _, _, _ => none
  | m + 1, y1, y2, y3, y4, σ => hk (inb y1 (gL σ 23 12)) <| if (gC σ 23 12 y1) ≤ y4 then (some (y3)) else (if y3 = 0 then (some (y3)) else (hk (inb y1 (gL σ 23 11)) <| hk (inb ((((gC σ 23 11 y1)) + y4)) (gL σ 23 7)) <| hk (inb y2 (gL σ 23 11)) <| hk (inb ((((gC σ 23 11 y2)) + y4)) (gL σ 23 7)) <| hl (α := Int32) ((if (gC σ 23 7 ((((gC σ 23 11 y1)) + y4))).toInt8.toInt32 = (gC σ 23 7 ((((gC σ 23 11 y2)) + y4))).toInt8.toInt32 then 1 else 0)) fun v17 => lp_X21_sameName_24 n m y1 y2 v17 ((y4 + 1)) σ))
/-- HomeCompilerModel.sameName(II)Z -/
def fm_X21_sameName (n : Nat) (x1 : Int32) (x2 : Int32) (σ : hc_St) : Option Int32 := hk (inb x1 (gL σ 23 12)) <| hk (inb x2 (gL σ 23 12)) <| hl (α := Int32) ((if (gC σ 23 12 x1) = (gC σ 23 12 x2) then 1 else 0)) fun v5 => Option.bind (lp_X21_sameName_24 n n x1 x2 v5 0 σ) fun r21 => hk (hb01 r21) <| some r21
set_option maxRecDepth 20000 in
set_option maxHeartbeats 4000000 in
theorem ll_X21_sameName_24 {l : Launch} {E : hc_E} {A : Nat → Prop} {am : Nat → Nat → Nat} {d : Nat} {X : hc_X} (n : Nat) (hD : 1 ≤ d) (hem : X.2.2.2.2.2.2.2.2.2.1.exceptionTable.isEmpty = true) {oc : hc_Oc} {σe : hc_St} (hC : hc_C hc_V0 E cX21_sameName 5 RX21 (some .boolean) d oc σe (l, A, am, []) X) : ∀ (m : Nat) (σ : hc_St) (y1 : Int32) (y2 : Int32) (y3 : Int32) (y4 : Int32) (rl : Int32) (am1 : Nat → Nat → Nat), lp_X21_sameName_24 n m y1 y2 y3 y4 σ = some rl → (hc_At hc_V0 E 5 X 82 [(3, .int rl)] [] σ am1 []) → hc_At hc_V0 E 5 X 24 [(0, .ref (E.2.1 23)), (1, .int y1), (2, .int y2), (3, .int y3), (4, .int y4)] [] σ am1 [] := by
  have hd1 : 1 ≤ d := by omega
  intro m
  induction m with
  | zero =>
    intro σ y1 y2 y3 y4 rl am1 h
    cases h
  | succ m ih =>
    intro σ y1 y2 y3 y4 rl am1 h JX
    rw [lp_X21_sameName_24] at h
    refine hr_iload hC dX21_sameName_24 rfl ?_
    refine hr_aload_n hC dX21_sameName_26 rfl ?_
    refine hr_gA hC F23_12 rfl dX21_sameName_27 q2854 ?_
    refine hr_iload_n hC dX21_sameName_30 rfl ?_
    obtain ⟨c6, h⟩ := hk_ok h
    refine hs_iald hC A23_12 c6 dX21_sameName_31 ?_
    refine hr_icmp_ge (x := _) hC 82 dX21_sameName_32 (by decide) (fun c8 => ?_) (fun c8 => ?_)
    · rw [if_pos c8] at h
      obtain rfl := Option.some.inj h
      exact hr_sub _ rfl (JX)
    · rw [if_neg c8] at h
      refine hr_iload_n hC dX21_sameName_35 rfl ?_
      refine hr_if_eq (x := _) hC 82 dX21_sameName_36 (by decide) (fun c10 => ?_) (fun c10 => ?_)
      · rw [if_pos c10] at h
        obtain rfl := Option.some.inj h
        exact hr_sub _ rfl (JX)
      · rw [if_neg c10] at h
        refine hr_aload_n hC dX21_sameName_39 rfl ?_
        refine hr_gA hC F23_7 rfl dX21_sameName_40 q2849 ?_
        refine hr_aload_n hC dX21_sameName_43 rfl ?_
        refine hr_gA hC F23_11 rfl dX21_sameName_44 q2853 ?_
        refine hr_iload_n hC dX21_sameName_47 rfl ?_
        obtain ⟨c11, h⟩ := hk_ok h
        refine hs_iald hC A23_11 c11 dX21_sameName_48 ?_
        refine hr_iload hC dX21_sameName_49 rfl ?_
        refine hr_iadd hC dX21_sameName_51 ?_
        obtain ⟨c12, h⟩ := hk_ok h
        refine hs_bald hC A23_7 c12 dX21_sameName_52 ?_
        refine hr_aload_n hC dX21_sameName_53 rfl ?_
        refine hr_gA hC F23_7 rfl dX21_sameName_54 q2849 ?_
        refine hr_aload_n hC dX21_sameName_57 rfl ?_
        refine hr_gA hC F23_11 rfl dX21_sameName_58 q2853 ?_
        refine hr_iload_n hC dX21_sameName_61 rfl ?_
        obtain ⟨c13, h⟩ := hk_ok h
        refine hs_iald hC A23_11 c13 dX21_sameName_62 ?_
        refine hr_iload hC dX21_sameName_63 rfl ?_
        refine hr_iadd hC dX21_sameName_65 ?_
        obtain ⟨c14, h⟩ := hk_ok h
        refine hs_bald hC A23_7 c14 dX21_sameName_66 ?_
        obtain ⟨v17, hv17, h⟩ := hl_ok h
        have J18 : ∀ w19 : Int32, (if (gC σ 23 7 ((((gC σ 23 11 y1)) + y4))).toInt8.toInt32 = (gC σ 23 7 ((((gC σ 23 11 y2)) + y4))).toInt8.toInt32 then 1 else 0) = w19 → hc_At hc_V0 E 5 X 75 [(0, .ref (E.2.1 23)), (1, .int y1), (2, .int y2), (4, .int y4)] [.int w19] σ am1 [] := by
          intro w19 hw19
          obtain rfl := hv17.trans hw19
          refine hr_istore_n hC dX21_sameName_75 (by decide) ?_
          refine hr_iinc (v := y4 + 1) hC dX21_sameName_76 rfl rfl (by decide) ?_
          refine hr_goto hC 24 dX21_sameName_79 (by decide) ?_
          exact hr_sub _ rfl (ih _ _ _ _ _ _ am1 h JX)
        refine hr_icmp_ne (x := _) hC 74 dX21_sameName_67 (by decide) (fun c20 => ?_) (fun c20 => ?_)
        · refine hr_iconst (v := 0) hC dX21_sameName_74 rfl ?_
          exact hr_sub _ rfl (J18 _ (by first | (rw [if_neg c20]; done) | (simp only [if_neg c20]; done) | rfl))
        · refine hr_iconst (v := 1) hC dX21_sameName_70 rfl ?_
          refine hr_goto hC 75 dX21_sameName_71 (by decide) ?_
          exact hr_sub _ rfl (J18 _ (by first | (rw [if_pos c20]; done) | (simp only [if_pos c20]; done) | rfl))
set_option maxRecDepth 20000 in
set_option maxHeartbeats 4000000 in
theorem okX21_sameName (l : Launch) (E : hc_E) (A : Nat → Prop) (d : Nat) (n : Nat) (hD : 1 ≤ d) {x1 : Int32} {x2 : Int32} {σ : hc_St} {r : Int32} (h : fm_X21_sameName n x1 x2 σ = some r) (am : Nat → Nat → Nat) : hc_M l hc_V0 yX21_sameName (ws_ yX21_sameName cX21_sameName 5 (some .boolean)) d E A [.ref (E.2.1 23), .int x1, .int x2] am [] σ (.inl (some (.int r))) σ := by
  have hd1 : 1 ≤ d := by omega
  refine hc_enter2 (own := RX21) [(0, .ref (E.2.1 23)), (1, .int x1), (2, .int x2)] pl_X21 rfl hc_V0_st hc_G0_nd rfl (Nat.le_of_ble_eq_true rfl) (fun X hC hem => ?_)
  unfold fm_X21_sameName at h
  refine hr_aload_n hC dX21_sameName_0 rfl ?_
  refine hr_gA hC F23_12 rfl dX21_sameName_1 q2854 ?_
  refine hr_iload_n hC dX21_sameName_4 rfl ?_
  obtain ⟨c1, h⟩ := hk_ok h
  refine hs_iald hC A23_12 c1 dX21_sameName_5 ?_
  refine hr_aload_n hC dX21_sameName_6 rfl ?_
  refine hr_gA hC F23_12 rfl dX21_sameName_7 q2854 ?_
  refine hr_iload_n hC dX21_sameName_10 rfl ?_
  obtain ⟨c2, h⟩ := hk_ok h
  refine hs_iald hC A23_12 c2 dX21_sameName_11 ?_
  obtain ⟨v5, hv5, h⟩ := hl_ok h
  have J27 : ∀ w28 : Int32, (if (gC σ 23 12 x1) = (gC σ 23 12 x2) then 1 else 0) = w28 → hc_At hc_V0 E 5 X 20 [(0, .ref (E.2.1 23)), (1, .int x1), (2, .int x2)] [.int w28] σ am [] := by
    intro w28 hw28
    obtain rfl := hv5.trans hw28
    refine hr_istore_n hC dX21_sameName_20 (by decide) ?_
    refine hr_iconst (v := 0) hC dX21_sameName_21 rfl ?_
    refine hr_istore hC dX21_sameName_22 (by decide) ?_
    obtain ⟨r21, e22, h⟩ := hx_bind h
    refine hr_sub _ rfl (ll_X21_sameName_24 n hD hem hC n _ _ _ _ _ _ am e22 ?_)
    refine hr_iload_n hC dX21_sameName_82 rfl ?_
    obtain ⟨c26, h⟩ := hk_ok h
    obtain rfl := Option.some.inj h
    exact hr_zret hC (hb01_n c26) dX21_sameName_83
  refine hr_icmp_ne (x := _) hC 19 dX21_sameName_12 (by decide) (fun c29 => ?_) (fun c29 => ?_)
  · refine hr_iconst (v := 0) hC dX21_sameName_19 rfl ?_
    exact hr_sub _ rfl (J27 _ (by first | (rw [if_neg c29]; done) | (simp only [if_neg c29]; done) | rfl))
  · refine hr_iconst (v := 1) hC dX21_sameName_15 rfl ?_
    refine hr_goto hC 20 dX21_sameName_16 (by decide) ?_
    exact hr_sub _ rfl (J27 _ (by first | (rw [if_pos c29]; done) | (simp only [if_pos c29]; done) | rfl))
def lp_X21_findFunction_2 (n : Nat) : Nat → Int32 → Int32 → hc_St → Option Int32
  | 0, _, _, _ => none
  | m + 1, y1, y2, σ => if (gI σ 23 43) ≤ y2 then (some ((-1))) else (hk (inb y2 (gL σ 23 44)) <| hk (inb ((gC σ 23 44 y2)) (gL σ 23 19)) <| Option.bind (fm_X21_sameName n ((gC σ 23 19 ((gC σ 23 44 y2)))) y1 σ) fun r5 => if r5 = 0 then (lp_X21_findFunction_2 n m y1 ((y2 + 1)) σ) else (some y2))
/-- HomeCompilerModel.findFunction(I)I -/
def fm_X21_findFunction (n : Nat) (x1 : Int32) (σ : hc_St) : Option Int32 := lp_X21_findFunction_2 n n x1 0 σ
set_option maxRecDepth 20000 in
set_option maxHeartbeats 4000000 in
theorem ll_X21_findFunction_2 {l : Launch} {E : hc_E} {A : Nat → Prop} {am : Nat → Nat → Nat} {d : Nat} {X : hc_X} (n : Nat) (hD : 2 ≤ d) (hem : X.2.2.2.2.2.2.2.2.2.1.exceptionTable.isEmpty = true) : ∀ (m : Nat) (σ : hc_St) (y1 : Int32) (y2 : Int32) (rl : Int32), lp_X21_findFunction_2 n m y1 y2 σ = some rl → hc_C hc_V0 E cX21_findFunction 3 RX21 (some .int) d (.inl (some (.int rl))) σ (l, A, am, []) X → ∀ am1, hc_At hc_V0 E 3 X 2 [(0, .ref (E.2.1 23)), (1, .int y1), (2, .int y2)] [] σ am1 [] := by
  have hd1 : 1 ≤ d := by omega
  intro m
  induction m with
  | zero =>
    intro σ y1 y2 rl h
    cases h
  | succ m ih =>
    intro σ y1 y2 rl h hC am1
    rw [lp_X21_findFunction_2] at h
    refine hr_iload_n hC dX21_findFunction_2 rfl ?_
    refine hr_aload_n hC dX21_findFunction_3 rfl ?_
    refine hr_gI hC F23_43 dX21_findFunction_4 q2884 ?_
    refine hr_icmp_ge (x := _) hC 37 dX21_findFunction_7 (by decide) (fun c2 => ?_) (fun c2 => ?_)
    · rw [if_pos c2] at h
      refine hr_iconst (v := (-1)) hC dX21_findFunction_37 rfl ?_
      obtain rfl := Option.some.inj h
      exact hr_iret hC dX21_findFunction_38
    · rw [if_neg c2] at h
      refine hr_aload_n hC dX21_findFunction_10 rfl ?_
      refine hr_aload_n hC dX21_findFunction_11 rfl ?_
      refine hr_gA hC F23_19 rfl dX21_findFunction_12 q2861 ?_
      refine hr_aload_n hC dX21_findFunction_15 rfl ?_
      refine hr_gA hC F23_44 rfl dX21_findFunction_16 q2885 ?_
      refine hr_iload_n hC dX21_findFunction_19 rfl ?_
      obtain ⟨c3, h⟩ := hk_ok h
      refine hs_iald hC A23_44 c3 dX21_findFunction_20 ?_
      obtain ⟨c4, h⟩ := hk_ok h
      refine hs_iald hC A23_19 c4 dX21_findFunction_21 ?_
      refine hr_iload_n hC dX21_findFunction_22 rfl ?_
      obtain ⟨r5, e6, h⟩ := hx_bind h
      refine hs_callV0 hC 23 [_, _] _ dX21_findFunction_23 q3394 q3396 qs235 q335 q3397 np_X21 rfl OB_23 pd_X21_sameName (Nat.le_of_ble_eq_true rfl) hd1 (okX21_sameName l E A (d - 1) n (by omega)  e6 am1) rfl ?_
      refine hr_if_eq (x := _) hC 31 dX21_findFunction_26 (by decide) (fun c10 => ?_) (fun c10 => ?_)
      · rw [if_pos c10] at h
        refine hr_iinc (v := y2 + 1) hC dX21_findFunction_31 rfl rfl (by decide) ?_
        refine hr_goto hC 2 dX21_findFunction_34 (by decide) ?_
        exact hr_sub _ rfl (ih _ _ _ _ h hC am1)
      · rw [if_neg c10] at h
        refine hr_iload_n hC dX21_findFunction_29 rfl ?_
        obtain rfl := Option.some.inj h
        exact hr_iret hC dX21_findFunction_30
set_option maxRecDepth 20000 in
set_option maxHeartbeats 4000000 in
theorem okX21_findFunction (l : Launch) (E : hc_E) (A : Nat → Prop) (d : Nat) (n : Nat) (hD : 2 ≤ d) {x1 : Int32} {σ : hc_St} {r : Int32} (h : fm_X21_findFunction n x1 σ = some r) (am : Nat → Nat → Nat) : hc_M l hc_V0 yX21_findFunction (ws_ yX21_findFunction cX21_findFunction 3 (some .int)) d E A [.ref (E.2.1 23), .int x1] am [] σ (.inl (some (.int r))) σ := by
  have hd1 : 1 ≤ d := by omega
  refine hc_enter2 (own := RX21) [(0, .ref (E.2.1 23)), (1, .int x1)] pl_X21 rfl hc_V0_st hc_G0_nd rfl (Nat.le_of_ble_eq_true rfl) (fun X hC hem => ?_)
  unfold fm_X21_findFunction at h
  refine hr_iconst (v := 0) hC dX21_findFunction_0 rfl ?_
  refine hr_istore_n hC dX21_findFunction_1 (by decide) ?_
  exact hr_sub _ rfl (ll_X21_findFunction_2 n hD hem n _ _ _ _ h hC am)
/-- HomeCompilerModel.bad(II)V -/
def fm_X21_bad  (x1 : Int32) (x2 : Int32) (σ : hc_St) : Option hc_St := Option.bind (α := hc_St) (if (gI σ 23 34) = 0 then (hl (pI σ 23 34 x1) fun σ7 => hl (pI σ7 23 35 x2) fun σ8 => some (σ8)) else (if x2 < (gI σ 23 35) then (hl (pI σ 23 34 x1) fun σ11 => hl (pI σ11 23 35 x2) fun σ12 => some (σ12)) else (if x2 = (gI σ 23 35) then (if (gI σ 23 34) ≤ x1 then (some (σ)) else (hl (pI σ 23 34 x1) fun σ17 => hl (pI σ17 23 35 x2) fun σ18 => some (σ18))) else (some (σ))))) fun r3 => some r3
set_option maxRecDepth 20000 in
set_option maxHeartbeats 4000000 in
theorem okX21_bad (l : Launch) (E : hc_E) (A : Nat → Prop) (d : Nat)  (hD : 1 ≤ d) {x1 : Int32} {x2 : Int32} {σ : hc_St} {r : hc_St} (h : fm_X21_bad  x1 x2 σ = some r) (am : Nat → Nat → Nat) : hc_M l hc_V0 yX21_bad (ws_ yX21_bad cX21_bad 3 none) d E A [.ref (E.2.1 23), .int x1, .int x2] am [] σ (.inl none) r := by
  have hd1 : 1 ≤ d := by omega
  refine hc_enter2 (own := RX21) [(0, .ref (E.2.1 23)), (1, .int x1), (2, .int x2)] pl_X21 rfl hc_V0_st hc_G0_nd rfl (Nat.le_of_ble_eq_true rfl) (fun X hC hem => ?_)
  unfold fm_X21_bad at h
  refine hr_aload_n hC dX21_bad_0 rfl ?_
  refine hr_gI hC F23_34 dX21_bad_1 q2876 ?_
  obtain ⟨r3, e4, h⟩ := hx_bind h
  have J5 : hc_At hc_V0 E 3 X 41 [] [] r3 am [] := by
    obtain rfl := Option.some.inj h
    exact hr_vret hC dX21_bad_41
  clear h
  have h := e4
  refine hr_if_eq (x := _) hC 31 dX21_bad_4 (by decide) (fun c2 => ?_) (fun c2 => ?_)
  · rw [if_pos c2] at h
    refine hr_aload_n hC dX21_bad_31 rfl ?_
    refine hr_iload_n hC dX21_bad_32 rfl ?_
    obtain ⟨σ7, hσ7, h⟩ := hl_ok h
    refine hr_pI hC F23_34 PX21_34 dX21_bad_33 q2876 ?_
    rw [← hσ7]
    refine hr_aload_n hC dX21_bad_36 rfl ?_
    refine hr_iload_n hC dX21_bad_37 rfl ?_
    obtain ⟨σ8, hσ8, h⟩ := hl_ok h
    refine hr_pI hC F23_35 PX21_35 dX21_bad_38 q2877 ?_
    rw [← hσ8]
    obtain rfl := Option.some.inj h
    exact hr_sub _ rfl (J5)
  · rw [if_neg c2] at h
    refine hr_iload_n hC dX21_bad_7 rfl ?_
    refine hr_aload_n hC dX21_bad_8 rfl ?_
    refine hr_gI hC F23_35 dX21_bad_9 q2877 ?_
    refine hr_icmp_lt (x := _) hC 31 dX21_bad_12 (by decide) (fun c10 => ?_) (fun c10 => ?_)
    · rw [if_pos c10] at h
      refine hr_aload_n hC dX21_bad_31 rfl ?_
      refine hr_iload_n hC dX21_bad_32 rfl ?_
      obtain ⟨σ11, hσ11, h⟩ := hl_ok h
      refine hr_pI hC F23_34 PX21_34 dX21_bad_33 q2876 ?_
      rw [← hσ11]
      refine hr_aload_n hC dX21_bad_36 rfl ?_
      refine hr_iload_n hC dX21_bad_37 rfl ?_
      obtain ⟨σ12, hσ12, h⟩ := hl_ok h
      refine hr_pI hC F23_35 PX21_35 dX21_bad_38 q2877 ?_
      rw [← hσ12]
      obtain rfl := Option.some.inj h
      exact hr_sub _ rfl (J5)
    · rw [if_neg c10] at h
      refine hr_iload_n hC dX21_bad_15 rfl ?_
      refine hr_aload_n hC dX21_bad_16 rfl ?_
      refine hr_gI hC F23_35 dX21_bad_17 q2877 ?_
      refine hr_icmp_ne (x := _) hC 41 dX21_bad_20 (by decide) (fun c14 => ?_) (fun c14 => ?_)
      · rw [if_neg c14] at h
        obtain rfl := Option.some.inj h
        exact hr_sub _ rfl (J5)
      · rw [if_pos c14] at h
        refine hr_iload_n hC dX21_bad_23 rfl ?_
        refine hr_aload_n hC dX21_bad_24 rfl ?_
        refine hr_gI hC F23_34 dX21_bad_25 q2876 ?_
        refine hr_icmp_ge (x := _) hC 41 dX21_bad_28 (by decide) (fun c16 => ?_) (fun c16 => ?_)
        · rw [if_pos c16] at h
          obtain rfl := Option.some.inj h
          exact hr_sub _ rfl (J5)
        · rw [if_neg c16] at h
          refine hr_aload_n hC dX21_bad_31 rfl ?_
          refine hr_iload_n hC dX21_bad_32 rfl ?_
          obtain ⟨σ17, hσ17, h⟩ := hl_ok h
          refine hr_pI hC F23_34 PX21_34 dX21_bad_33 q2876 ?_
          rw [← hσ17]
          refine hr_aload_n hC dX21_bad_36 rfl ?_
          refine hr_iload_n hC dX21_bad_37 rfl ?_
          obtain ⟨σ18, hσ18, h⟩ := hl_ok h
          refine hr_pI hC F23_35 PX21_35 dX21_bad_38 q2877 ?_
          rw [← hσ18]
          obtain rfl := Option.some.inj h
          exact hr_sub _ rfl (J5)
def lp_X21_find_7 (n : Nat) : Nat → Int32 → Int32 → Int32 → hc_St → Option (Int32)
  | 0, _, _, _, _ => none
  | m + 1, y1, y2, y3, σ => if y3 < y2 then (some (y3)) else (hk (inb y3 (gL σ 23 39)) <| Option.bind (fm_X21_sameName n ((gC σ 23 39 y3)) y1 σ) fun r4 => if r4 = 0 then (lp_X21_find_7 n m y1 y2 ((y3 + (-1))) σ) else (some (y3)))
/-- HomeCompilerModel.find(II)I -/
def fm_X21_find (n : Nat) (x1 : Int32) (x2 : Int32) (σ : hc_St) : Option Int32 := Option.bind (lp_X21_find_7 n n x1 x2 ((((gI σ 23 38)) - 1)) σ) fun r10 => hl (α := Int32) ((if r10 < x2 then (-1) else r10)) fun v17 => some v17
set_option maxRecDepth 20000 in
set_option maxHeartbeats 4000000 in
theorem ll_X21_find_7 {l : Launch} {E : hc_E} {A : Nat → Prop} {am : Nat → Nat → Nat} {d : Nat} {X : hc_X} (n : Nat) (hD : 2 ≤ d) (hem : X.2.2.2.2.2.2.2.2.2.1.exceptionTable.isEmpty = true) {oc : hc_Oc} {σe : hc_St} (hC : hc_C hc_V0 E cX21_find 4 RX21 (some .int) d oc σe (l, A, am, []) X) : ∀ (m : Nat) (σ : hc_St) (y1 : Int32) (y2 : Int32) (y3 : Int32) (rl : Int32) (am1 : Nat → Nat → Nat), lp_X21_find_7 n m y1 y2 y3 σ = some rl → (hc_At hc_V0 E 4 X 32 [(2, .int y2), (3, .int rl)] [] σ am1 []) → hc_At hc_V0 E 4 X 7 [(0, .ref (E.2.1 23)), (1, .int y1), (2, .int y2), (3, .int y3)] [] σ am1 [] := by
  have hd1 : 1 ≤ d := by omega
  intro m
  induction m with
  | zero =>
    intro σ y1 y2 y3 rl am1 h
    cases h
  | succ m ih =>
    intro σ y1 y2 y3 rl am1 h JX
    rw [lp_X21_find_7] at h
    refine hr_iload_n hC dX21_find_7 rfl ?_
    refine hr_iload_n hC dX21_find_8 rfl ?_
    refine hr_icmp_lt (x := _) hC 32 dX21_find_9 (by decide) (fun c2 => ?_) (fun c2 => ?_)
    · rw [if_pos c2] at h
      obtain rfl := Option.some.inj h
      exact hr_sub _ rfl (JX)
    · rw [if_neg c2] at h
      refine hr_aload_n hC dX21_find_12 rfl ?_
      refine hr_aload_n hC dX21_find_13 rfl ?_
      refine hr_gA hC F23_39 rfl dX21_find_14 q2880 ?_
      refine hr_iload_n hC dX21_find_17 rfl ?_
      obtain ⟨c3, h⟩ := hk_ok h
      refine hs_iald hC A23_39 c3 dX21_find_18 ?_
      refine hr_iload_n hC dX21_find_19 rfl ?_
      obtain ⟨r4, e5, h⟩ := hx_bind h
      refine hs_callV0 hC 23 [_, _] _ dX21_find_20 q3394 q3396 qs235 q335 q3397 np_X21 rfl OB_23 pd_X21_sameName (Nat.le_of_ble_eq_true rfl) hd1 (okX21_sameName l E A (d - 1) n (by omega)  e5 am1) rfl ?_
      refine hr_if_ne (x := _) hC 32 dX21_find_23 (by decide) (fun c9 => ?_) (fun c9 => ?_)
      · rw [if_neg c9] at h
        obtain rfl := Option.some.inj h
        exact hr_sub _ rfl (JX)
      · rw [if_pos c9] at h
        refine hr_iinc (v := y3 + (-1)) hC dX21_find_26 rfl rfl (by decide) ?_
        refine hr_goto hC 7 dX21_find_29 (by decide) ?_
        exact hr_sub _ rfl (ih _ _ _ _ _ am1 h JX)
set_option maxRecDepth 20000 in
set_option maxHeartbeats 4000000 in
theorem okX21_find (l : Launch) (E : hc_E) (A : Nat → Prop) (d : Nat) (n : Nat) (hD : 2 ≤ d) {x1 : Int32} {x2 : Int32} {σ : hc_St} {r : Int32} (h : fm_X21_find n x1 x2 σ = some r) (am : Nat → Nat → Nat) : hc_M l hc_V0 yX21_find (ws_ yX21_find cX21_find 4 (some .int)) d E A [.ref (E.2.1 23), .int x1, .int x2] am [] σ (.inl (some (.int r))) σ := by
  have hd1 : 1 ≤ d := by omega
  refine hc_enter2 (own := RX21) [(0, .ref (E.2.1 23)), (1, .int x1), (2, .int x2)] pl_X21 rfl hc_V0_st hc_G0_nd rfl (Nat.le_of_ble_eq_true rfl) (fun X hC hem => ?_)
  unfold fm_X21_find at h
  refine hr_aload_n hC dX21_find_0 rfl ?_
  refine hr_gI hC F23_38 dX21_find_1 q2879 ?_
  refine hr_iconst (v := 1) hC dX21_find_4 rfl ?_
  refine hr_isub hC dX21_find_5 ?_
  refine hr_istore_n hC dX21_find_6 (by decide) ?_
  obtain ⟨r10, e11, h⟩ := hx_bind h
  refine hr_sub _ rfl (ll_X21_find_7 n hD hem hC n _ _ _ _ _ am e11 ?_)
  refine hr_iload_n hC dX21_find_32 rfl ?_
  refine hr_iload_n hC dX21_find_33 rfl ?_
  obtain ⟨v17, hv17, h⟩ := hl_ok h
  have J18 : ∀ w19 : Int32, (if r10 < x2 then (-1) else r10) = w19 → hc_At hc_V0 E 4 X 42 [] [.int w19] σ am [] := by
    intro w19 hw19
    obtain rfl := hv17.trans hw19
    obtain rfl := Option.some.inj h
    exact hr_iret hC dX21_find_42
  refine hr_icmp_lt (x := _) hC 41 dX21_find_34 (by decide) (fun c20 => ?_) (fun c20 => ?_)
  · refine hr_iconst (v := (-1)) hC dX21_find_41 rfl ?_
    exact hr_sub _ rfl (J18 _ (by first | (rw [if_pos c20]; done) | (simp only [if_pos c20]; done) | rfl))
  · refine hr_iload_n hC dX21_find_37 rfl ?_
    refine hr_goto hC 42 dX21_find_38 (by decide) ?_
    exact hr_sub _ rfl (J18 _ (by first | (rw [if_neg c20]; done) | (simp only [if_neg c20]; done) | rfl))
/-- HomeCompilerModel.isFunction(I)Z -/
def fm_X21_isFunction (n : Nat) (x1 : Int32) (σ : hc_St) : Option Int32 := Option.bind (fm_X21_findFunction n x1 σ) fun r1 => Option.bind (α := Int32) (if 0 ≤ r1 then (some (1)) else (Option.bind (fm_X21_findOwn n x1 σ) fun r11 => if r11 < 0 then (some (0)) else (some (1)))) fun r7 => hk (hb01 r7) <| some r7
set_option maxRecDepth 20000 in
set_option maxHeartbeats 4000000 in
theorem okX21_isFunction (l : Launch) (E : hc_E) (A : Nat → Prop) (d : Nat) (n : Nat) (hD : 12 ≤ d) {x1 : Int32} {σ : hc_St} {r : Int32} (h : fm_X21_isFunction n x1 σ = some r) (am : Nat → Nat → Nat) : hc_M l hc_V0 yX21_isFunction (ws_ yX21_isFunction cX21_isFunction 2 (some .boolean)) d E A [.ref (E.2.1 23), .int x1] am [] σ (.inl (some (.int r))) σ := by
  have hd1 : 1 ≤ d := by omega
  have hd8 : 9 ≤ d := by omega
  refine hc_enter2 (own := RX21) [(0, .ref (E.2.1 23)), (1, .int x1)] pl_X21 rfl hc_V0_st hc_G0_nd rfl (Nat.le_of_ble_eq_true rfl) (fun X hC hem => ?_)
  unfold fm_X21_isFunction at h
  refine hr_aload_n hC dX21_isFunction_0 rfl ?_
  refine hr_iload_n hC dX21_isFunction_1 rfl ?_
  obtain ⟨r1, e2, h⟩ := hx_bind h
  refine hs_callV0 hC 23 [_] _ dX21_isFunction_2 q3390 q3392 qs234 q335 q3393 np_X21 rfl OB_23 pd_X21_findFunction (Nat.le_of_ble_eq_true rfl) hd1 (okX21_findFunction l E A (d - 1) n (by omega)  e2 am) rfl ?_
  obtain ⟨r7, e8, h⟩ := hx_bind h
  have J9 : hc_At hc_V0 E 2 X 21 [] [.int r7] σ am [] := by
    obtain ⟨c17, h⟩ := hk_ok h
    obtain rfl := Option.some.inj h
    exact hr_zret hC (hb01_n c17) dX21_isFunction_21
  clear h
  have h := e8
  refine hr_if_ge (x := _) hC 16 dX21_isFunction_5 (by decide) (fun c6 => ?_) (fun c6 => ?_)
  · rw [if_pos c6] at h
    refine hr_iconst (v := 1) hC dX21_isFunction_16 rfl ?_
    refine hr_goto hC 21 dX21_isFunction_17 (by decide) ?_
    obtain rfl := Option.some.inj h
    exact hr_sub _ rfl (J9)
  · rw [if_neg c6] at h
    refine hr_aload_n hC dX21_isFunction_8 rfl ?_
    refine hr_iload_n hC dX21_isFunction_9 rfl ?_
    obtain ⟨r11, e12, h⟩ := hx_bind h
    refine hs_callV0 hC 23 [_] _ dX21_isFunction_10 q3382 q3384 qs232 q335 q3385 np_X21 rfl OB_23 pd_X21_findOwn (Nat.le_of_ble_eq_true rfl) hd1 (okX21_findOwn l E A (d - 1) n (by omega)  e12 am) rfl ?_
    refine hr_if_lt (x := _) hC 20 dX21_isFunction_13 (by decide) (fun c16 => ?_) (fun c16 => ?_)
    · rw [if_pos c16] at h
      refine hr_iconst (v := 0) hC dX21_isFunction_20 rfl ?_
      obtain rfl := Option.some.inj h
      exact hr_sub _ rfl (J9)
    · rw [if_neg c16] at h
      refine hr_iconst (v := 1) hC dX21_isFunction_16 rfl ?_
      refine hr_goto hC 21 dX21_isFunction_17 (by decide) ?_
      obtain rfl := Option.some.inj h
      exact hr_sub _ rfl (J9)
/-- HomeCompilerModel.checkNew(I)V -/
def fm_X21_checkNew (n : Nat) (x1 : Int32) (σ : hc_St) : Option hc_St := Option.bind (fm_X21_find n x1 ((gI σ 23 42)) σ) fun r1 => Option.bind (α := Int32) (if 0 ≤ r1 then (some (1)) else (if 0 ≤ (gI σ 23 48) then (some (0)) else (Option.bind (fm_X21_isFunction n x1 σ) fun r13 => if r13 = 0 then (some (0)) else (some (1))))) fun r7 => Option.bind (α := hc_St) (if r7 = 0 then (some (σ)) else (Option.bind (fm_X21_bad 1 x1 σ) fun r25 => some (r25))) fun r21 => some r21
set_option maxRecDepth 20000 in
set_option maxHeartbeats 4000000 in
theorem okX21_checkNew (l : Launch) (E : hc_E) (A : Nat → Prop) (d : Nat) (n : Nat) (hD : 13 ≤ d) {x1 : Int32} {σ : hc_St} {r : hc_St} (h : fm_X21_checkNew n x1 σ = some r) (am : Nat → Nat → Nat) : hc_M l hc_V0 yX21_checkNew (ws_ yX21_checkNew cX21_checkNew 3 none) d E A [.ref (E.2.1 23), .int x1] am [] σ (.inl none) r := by
  have hd1 : 1 ≤ d := by omega
  have hd8 : 9 ≤ d := by omega
  have hd12 : 12 ≤ d := by omega
  refine hc_enter2 (own := RX21) [(0, .ref (E.2.1 23)), (1, .int x1)] pl_X21 rfl hc_V0_st hc_G0_nd rfl (Nat.le_of_ble_eq_true rfl) (fun X hC hem => ?_)
  unfold fm_X21_checkNew at h
  refine hr_aload_n hC dX21_checkNew_0 rfl ?_
  refine hr_iload_n hC dX21_checkNew_1 rfl ?_
  refine hr_aload_n hC dX21_checkNew_2 rfl ?_
  refine hr_gI hC F23_42 dX21_checkNew_3 q2883 ?_
  obtain ⟨r1, e2, h⟩ := hx_bind h
  refine hs_callV0 hC 23 [_, _] _ dX21_checkNew_6 q3406 q3408 qs238 q335 q3409 np_X21 rfl OB_23 pd_X21_find (Nat.le_of_ble_eq_true rfl) hd1 (okX21_find l E A (d - 1) n (by omega)  e2 am) rfl ?_
  obtain ⟨r7, e8, h⟩ := hx_bind h
  have J9 : hc_At hc_V0 E 3 X 32 [(0, .ref (E.2.1 23)), (1, .int x1)] [.int r7] σ am [] := by
    refine hr_istore_n hC dX21_checkNew_32 (by decide) ?_
    refine hr_iload_n hC dX21_checkNew_33 rfl ?_
    obtain ⟨r21, e22, h⟩ := hx_bind h
    have J23 : hc_At hc_V0 E 3 X 43 [] [] r21 am [] := by
      obtain rfl := Option.some.inj h
      exact hr_vret hC dX21_checkNew_43
    clear h
    have h := e22
    refine hr_if_eq (x := _) hC 43 dX21_checkNew_34 (by decide) (fun c20 => ?_) (fun c20 => ?_)
    · rw [if_pos c20] at h
      obtain rfl := Option.some.inj h
      exact hr_sub _ rfl (J23)
    · rw [if_neg c20] at h
      refine hr_aload_n hC dX21_checkNew_37 rfl ?_
      refine hr_iconst (v := 1) hC dX21_checkNew_38 rfl ?_
      refine hr_iload_n hC dX21_checkNew_39 rfl ?_
      obtain ⟨r25, e26, h⟩ := hx_bind h
      refine hs_callV0 hC 23 [_, _] _ dX21_checkNew_40 q3398 q3400 qs236 q335 q3401 np_X21 rfl OB_23 pd_X21_bad (Nat.le_of_ble_eq_true rfl) hd1 (okX21_bad l E A (d - 1)  (by omega)  e26 am) rfl ?_
      obtain rfl := Option.some.inj h
      exact hr_sub _ rfl (J23)
  clear h
  have h := e8
  refine hr_if_ge (x := _) hC 27 dX21_checkNew_9 (by decide) (fun c6 => ?_) (fun c6 => ?_)
  · rw [if_pos c6] at h
    refine hr_iconst (v := 1) hC dX21_checkNew_27 rfl ?_
    refine hr_goto hC 32 dX21_checkNew_28 (by decide) ?_
    obtain rfl := Option.some.inj h
    exact hr_sub _ rfl (J9)
  · rw [if_neg c6] at h
    refine hr_aload_n hC dX21_checkNew_12 rfl ?_
    refine hr_gI hC F23_48 dX21_checkNew_13 q2889 ?_
    refine hr_if_ge (x := _) hC 31 dX21_checkNew_16 (by decide) (fun c12 => ?_) (fun c12 => ?_)
    · rw [if_pos c12] at h
      refine hr_iconst (v := 0) hC dX21_checkNew_31 rfl ?_
      obtain rfl := Option.some.inj h
      exact hr_sub _ rfl (J9)
    · rw [if_neg c12] at h
      refine hr_aload_n hC dX21_checkNew_19 rfl ?_
      refine hr_iload_n hC dX21_checkNew_20 rfl ?_
      obtain ⟨r13, e14, h⟩ := hx_bind h
      refine hs_callV0 hC 23 [_] _ dX21_checkNew_21 q3410 q3412 qs239 q335 q3413 np_X21 rfl OB_23 pd_X21_isFunction (Nat.le_of_ble_eq_true rfl) hd1 (okX21_isFunction l E A (d - 1) n (by omega)  e14 am) rfl ?_
      refine hr_if_eq (x := _) hC 31 dX21_checkNew_24 (by decide) (fun c18 => ?_) (fun c18 => ?_)
      · rw [if_pos c18] at h
        refine hr_iconst (v := 0) hC dX21_checkNew_31 rfl ?_
        obtain rfl := Option.some.inj h
        exact hr_sub _ rfl (J9)
      · rw [if_neg c18] at h
        refine hr_iconst (v := 1) hC dX21_checkNew_27 rfl ?_
        refine hr_goto hC 32 dX21_checkNew_28 (by decide) ?_
        obtain rfl := Option.some.inj h
        exact hr_sub _ rfl (J9)
/-- HomeCompilerModel.lay(II)I -/
def fm_X21_lay  (x1 : Int32) (x2 : Int32) (σ : hc_St) : Option (Int32 × hc_St) := hk (inb ((gI σ 23 53)) (gL σ 23 54)) <| hl (pC σ 23 54 ((gI σ 23 53)) ((x1.toInt8.toInt32))) fun σ2 => hl (α := Int32) ((if 0 ≤ (gI σ2 23 48) then 0 else 1)) fun v5 => hk (inb ((gI σ2 23 53)) (gL σ2 23 55)) <| hl (pC σ2 23 55 ((gI σ2 23 53)) v5) fun σ7 => hk (inb ((gI σ7 23 53)) (gL σ7 23 56)) <| hl (pC σ7 23 56 ((gI σ7 23 53)) ((gI σ7 23 59))) fun σ9 => hk (inb ((gI σ9 23 53)) (gL σ9 23 57)) <| hl (pC σ9 23 57 ((gI σ9 23 53)) x2) fun σ11 => hl (α := Int32) ((if x1 < 4 then x2 else 2)) fun v14 => hl (pI σ11 23 59 ((((gI σ11 23 59)) + v14))) fun σ15 => hl (pI σ15 23 53 ((((gI σ15 23 53)) + 1))) fun σ16 => some ((((gI σ16 23 53)) - 1), σ16)
set_option maxRecDepth 20000 in
set_option maxHeartbeats 4000000 in
theorem okX21_lay (l : Launch) (E : hc_E) (A : Nat → Prop) (d : Nat)  (hD : 1 ≤ d) {x1 : Int32} {x2 : Int32} {σ : hc_St} {r : (Int32 × hc_St)} (h : fm_X21_lay  x1 x2 σ = some r) (am : Nat → Nat → Nat) : hc_M l hc_V0 yX21_lay (ws_ yX21_lay cX21_lay 3 (some .int)) d E A [.ref (E.2.1 23), .int x1, .int x2] am [] σ (.inl (some (.int r.1))) r.2 := by
  have hd1 : 1 ≤ d := by omega
  refine hc_enter2 (own := RX21) [(0, .ref (E.2.1 23)), (1, .int x1), (2, .int x2)] pl_X21 rfl hc_V0_st hc_G0_nd rfl (Nat.le_of_ble_eq_true rfl) (fun X hC hem => ?_)
  unfold fm_X21_lay at h
  refine hr_aload_n hC dX21_lay_0 rfl ?_
  refine hr_gA hC F23_54 rfl dX21_lay_1 q2895 ?_
  refine hr_aload_n hC dX21_lay_4 rfl ?_
  refine hr_gI hC F23_53 dX21_lay_5 q2894 ?_
  refine hr_iload_n hC dX21_lay_8 rfl ?_
  refine hr_i2b hC dX21_lay_9 ?_
  obtain ⟨c1, h⟩ := hk_ok h
  obtain ⟨σ2, hσ2, h⟩ := hl_ok h
  refine hs_bast hC A23_54 c1 dX21_lay_10 ?_
  rw [← hσ2]
  refine hr_aload_n hC dX21_lay_11 rfl ?_
  refine hr_gA hC F23_55 rfl dX21_lay_12 q2896 ?_
  refine hr_aload_n hC dX21_lay_15 rfl ?_
  refine hr_gI hC F23_53 dX21_lay_16 q2894 ?_
  refine hr_aload_n hC dX21_lay_19 rfl ?_
  refine hr_gI hC F23_48 dX21_lay_20 q2889 ?_
  obtain ⟨v5, hv5, h⟩ := hl_ok h
  have J20 : ∀ w21 : Int32, (if 0 ≤ (gI σ2 23 48) then 0 else 1) = w21 → hc_At hc_V0 E 3 X 31 [(0, .ref (E.2.1 23)), (1, .int x1), (2, .int x2)] [.int w21, .int (gI σ2 23 53), .ref (am 23 55)] σ2 am [] := by
    intro w21 hw21
    obtain rfl := hv5.trans hw21
    obtain ⟨c6, h⟩ := hk_ok h
    obtain ⟨σ7, hσ7, h⟩ := hl_ok h
    refine hs_zast hC A23_55 c6 dX21_lay_31 ?_
    rw [← hσ7]
    refine hr_aload_n hC dX21_lay_32 rfl ?_
    refine hr_gA hC F23_56 rfl dX21_lay_33 q2897 ?_
    refine hr_aload_n hC dX21_lay_36 rfl ?_
    refine hr_gI hC F23_53 dX21_lay_37 q2894 ?_
    refine hr_aload_n hC dX21_lay_40 rfl ?_
    refine hr_gI hC F23_59 dX21_lay_41 q2900 ?_
    obtain ⟨c8, h⟩ := hk_ok h
    obtain ⟨σ9, hσ9, h⟩ := hl_ok h
    refine hs_iast hC A23_56 c8 dX21_lay_44 ?_
    rw [← hσ9]
    refine hr_aload_n hC dX21_lay_45 rfl ?_
    refine hr_gA hC F23_57 rfl dX21_lay_46 q2898 ?_
    refine hr_aload_n hC dX21_lay_49 rfl ?_
    refine hr_gI hC F23_53 dX21_lay_50 q2894 ?_
    refine hr_iload_n hC dX21_lay_53 rfl ?_
    obtain ⟨c10, h⟩ := hk_ok h
    obtain ⟨σ11, hσ11, h⟩ := hl_ok h
    refine hs_iast hC A23_57 c10 dX21_lay_54 ?_
    rw [← hσ11]
    refine hr_aload_n hC dX21_lay_55 rfl ?_
    refine hr_aload_n hC dX21_lay_56 rfl ?_
    refine hr_gI hC F23_59 dX21_lay_57 q2900 ?_
    refine hr_iload_n hC dX21_lay_60 rfl ?_
    refine hr_iconst (v := 4) hC dX21_lay_61 rfl ?_
    obtain ⟨v14, hv14, h⟩ := hl_ok h
    have J17 : ∀ w18 : Int32, (if x1 < 4 then x2 else 2) = w18 → hc_At hc_V0 E 3 X 70 [(0, .ref (E.2.1 23))] [.int w18, .int (gI σ11 23 59), .ref (E.2.1 23)] σ11 am [] := by
      intro w18 hw18
      obtain rfl := hv14.trans hw18
      refine hr_iadd hC dX21_lay_70 ?_
      obtain ⟨σ15, hσ15, h⟩ := hl_ok h
      refine hr_pI hC F23_59 PX21_59 dX21_lay_71 q2900 ?_
      rw [← hσ15]
      refine hr_aload_n hC dX21_lay_74 rfl ?_
      refine hr_dup hC dX21_lay_75 rfl ?_
      refine hr_gI hC F23_53 dX21_lay_76 q2894 ?_
      refine hr_iconst (v := 1) hC dX21_lay_79 rfl ?_
      refine hr_iadd hC dX21_lay_80 ?_
      obtain ⟨σ16, hσ16, h⟩ := hl_ok h
      refine hr_pI hC F23_53 PX21_53 dX21_lay_81 q2894 ?_
      rw [← hσ16]
      refine hr_aload_n hC dX21_lay_84 rfl ?_
      refine hr_gI hC F23_53 dX21_lay_85 q2894 ?_
      refine hr_iconst (v := 1) hC dX21_lay_88 rfl ?_
      refine hr_isub hC dX21_lay_89 ?_
      obtain rfl := Option.some.inj h
      exact hr_iret hC dX21_lay_90
    refine hr_icmp_lt (x := _) hC 69 dX21_lay_62 (by decide) (fun c19 => ?_) (fun c19 => ?_)
    · refine hr_iload_n hC dX21_lay_69 rfl ?_
      exact hr_sub _ rfl (J17 _ (by first | (rw [if_pos c19]; done) | (simp only [if_pos c19]; done) | rfl))
    · refine hr_iconst (v := 2) hC dX21_lay_65 rfl ?_
      refine hr_goto hC 70 dX21_lay_66 (by decide) ?_
      exact hr_sub _ rfl (J17 _ (by first | (rw [if_neg c19]; done) | (simp only [if_neg c19]; done) | rfl))
  refine hr_if_ge (x := _) hC 30 dX21_lay_23 (by decide) (fun c22 => ?_) (fun c22 => ?_)
  · refine hr_iconst (v := 0) hC dX21_lay_30 rfl ?_
    exact hr_sub _ rfl (J20 _ (by first | (rw [if_pos c22]; done) | (simp only [if_pos c22]; done) | rfl))
  · refine hr_iconst (v := 1) hC dX21_lay_26 rfl ?_
    refine hr_goto hC 31 dX21_lay_27 (by decide) ?_
    exact hr_sub _ rfl (J20 _ (by first | (rw [if_neg c22]; done) | (simp only [if_neg c22]; done) | rfl))
/-- HomeCompilerModel.know(IIII)V -/
def fm_X21_know  (x1 : Int32) (x2 : Int32) (x3 : Int32) (x4 : Int32) (σ : hc_St) : Option hc_St := hk (inb ((gI σ 23 38)) (gL σ 23 58)) <| hl (pC σ 23 58 ((gI σ 23 38)) x4) fun σ2 => hk (inb ((gI σ2 23 38)) (gL σ2 23 39)) <| hl (pC σ2 23 39 ((gI σ2 23 38)) x1) fun σ4 => hk (inb ((gI σ4 23 38)) (gL σ4 23 40)) <| hl (pC σ4 23 40 ((gI σ4 23 38)) x2) fun σ6 => hk (inb ((gI σ6 23 38)) (gL σ6 23 41)) <| hl (pC σ6 23 41 ((gI σ6 23 38)) x3) fun σ8 => hl (pI σ8 23 38 ((((gI σ8 23 38)) + 1))) fun σ9 => some σ9
set_option maxRecDepth 20000 in
set_option maxHeartbeats 4000000 in
theorem okX21_know (l : Launch) (E : hc_E) (A : Nat → Prop) (d : Nat)  (hD : 1 ≤ d) {x1 : Int32} {x2 : Int32} {x3 : Int32} {x4 : Int32} {σ : hc_St} {r : hc_St} (h : fm_X21_know  x1 x2 x3 x4 σ = some r) (am : Nat → Nat → Nat) : hc_M l hc_V0 yX21_know (ws_ yX21_know cX21_know 5 none) d E A [.ref (E.2.1 23), .int x1, .int x2, .int x3, .int x4] am [] σ (.inl none) r := by
  have hd1 : 1 ≤ d := by omega
  refine hc_enter2 (own := RX21) [(0, .ref (E.2.1 23)), (1, .int x1), (2, .int x2), (3, .int x3), (4, .int x4)] pl_X21 rfl hc_V0_st hc_G0_nd rfl (Nat.le_of_ble_eq_true rfl) (fun X hC hem => ?_)
  unfold fm_X21_know at h
  refine hr_aload_n hC dX21_know_0 rfl ?_
  refine hr_gA hC F23_58 rfl dX21_know_1 q2899 ?_
  refine hr_aload_n hC dX21_know_4 rfl ?_
  refine hr_gI hC F23_38 dX21_know_5 q2879 ?_
  refine hr_iload hC dX21_know_8 rfl ?_
  obtain ⟨c1, h⟩ := hk_ok h
  obtain ⟨σ2, hσ2, h⟩ := hl_ok h
  refine hs_iast hC A23_58 c1 dX21_know_10 ?_
  rw [← hσ2]
  refine hr_aload_n hC dX21_know_11 rfl ?_
  refine hr_gA hC F23_39 rfl dX21_know_12 q2880 ?_
  refine hr_aload_n hC dX21_know_15 rfl ?_
  refine hr_gI hC F23_38 dX21_know_16 q2879 ?_
  refine hr_iload_n hC dX21_know_19 rfl ?_
  obtain ⟨c3, h⟩ := hk_ok h
  obtain ⟨σ4, hσ4, h⟩ := hl_ok h
  refine hs_iast hC A23_39 c3 dX21_know_20 ?_
  rw [← hσ4]
  refine hr_aload_n hC dX21_know_21 rfl ?_
  refine hr_gA hC F23_40 rfl dX21_know_22 q2881 ?_
  refine hr_aload_n hC dX21_know_25 rfl ?_
  refine hr_gI hC F23_38 dX21_know_26 q2879 ?_
  refine hr_iload_n hC dX21_know_29 rfl ?_
  obtain ⟨c5, h⟩ := hk_ok h
  obtain ⟨σ6, hσ6, h⟩ := hl_ok h
  refine hs_iast hC A23_40 c5 dX21_know_30 ?_
  rw [← hσ6]
  refine hr_aload_n hC dX21_know_31 rfl ?_
  refine hr_gA hC F23_41 rfl dX21_know_32 q2882 ?_
  refine hr_aload_n hC dX21_know_35 rfl ?_
  refine hr_gI hC F23_38 dX21_know_36 q2879 ?_
  refine hr_iload_n hC dX21_know_39 rfl ?_
  obtain ⟨c7, h⟩ := hk_ok h
  obtain ⟨σ8, hσ8, h⟩ := hl_ok h
  refine hs_iast hC A23_41 c7 dX21_know_40 ?_
  rw [← hσ8]
  refine hr_aload_n hC dX21_know_41 rfl ?_
  refine hr_dup hC dX21_know_42 rfl ?_
  refine hr_gI hC F23_38 dX21_know_43 q2879 ?_
  refine hr_iconst (v := 1) hC dX21_know_46 rfl ?_
  refine hr_iadd hC dX21_know_47 ?_
  obtain ⟨σ9, hσ9, h⟩ := hl_ok h
  refine hr_pI hC F23_38 PX21_38 dX21_know_48 q2879 ?_
  rw [← hσ9]
  obtain rfl := Option.some.inj h
  exact hr_vret hC dX21_know_51
/-- HomeCompilerModel.leave(II)V -/
def fm_X21_leave  (x1 : Int32) (x2 : Int32) (σ : hc_St) : Option hc_St := hl (pI σ 23 38 x1) fun σ1 => hl (pI σ1 23 42 x2) fun σ2 => some σ2
set_option maxRecDepth 20000 in
set_option maxHeartbeats 4000000 in
theorem okX21_leave (l : Launch) (E : hc_E) (A : Nat → Prop) (d : Nat)  (hD : 1 ≤ d) {x1 : Int32} {x2 : Int32} {σ : hc_St} {r : hc_St} (h : fm_X21_leave  x1 x2 σ = some r) (am : Nat → Nat → Nat) : hc_M l hc_V0 yX21_leave (ws_ yX21_leave cX21_leave 3 none) d E A [.ref (E.2.1 23), .int x1, .int x2] am [] σ (.inl none) r := by
  have hd1 : 1 ≤ d := by omega
  refine hc_enter2 (own := RX21) [(0, .ref (E.2.1 23)), (1, .int x1), (2, .int x2)] pl_X21 rfl hc_V0_st hc_G0_nd rfl (Nat.le_of_ble_eq_true rfl) (fun X hC hem => ?_)
  unfold fm_X21_leave at h
  refine hr_aload_n hC dX21_leave_0 rfl ?_
  refine hr_iload_n hC dX21_leave_1 rfl ?_
  obtain ⟨σ1, hσ1, h⟩ := hl_ok h
  refine hr_pI hC F23_38 PX21_38 dX21_leave_2 q2879 ?_
  rw [← hσ1]
  refine hr_aload_n hC dX21_leave_5 rfl ?_
  refine hr_iload_n hC dX21_leave_6 rfl ?_
  obtain ⟨σ2, hσ2, h⟩ := hl_ok h
  refine hr_pI hC F23_42 PX21_42 dX21_leave_7 q2883 ?_
  rw [← hσ2]
  obtain rfl := Option.some.inj h
  exact hr_vret hC dX21_leave_10
/-- HomeCompilerModel.checkName(I)I -/
def fm_X21_checkName (n : Nat) (x1 : Int32) (σ : hc_St) : Option (Int32 × hc_St) := hk (inb x1 (gL σ 23 19)) <| Option.bind (fm_X21_find n ((gC σ 23 19 x1)) 0 σ) fun r2 => if 0 ≤ r2 then (hk (inb r2 (gL σ 23 40)) <| hk (inb r2 (gL σ 23 58)) <| hk (inb x1 (gL σ 23 22)) <| hl (pC σ 23 22 x1 ((gC σ 23 58 r2))) fun σ11 => hk (inb r2 (gL σ11 23 41)) <| hk (inb x1 (gL σ11 23 23)) <| hl (pC σ11 23 23 x1 ((gC σ11 23 41 r2))) fun σ14 => hl (α := Int32) ((if (gC σ 23 40 r2) = 2 then 2 else (if (gC σ 23 40 r2) = 3 then 3 else 1))) fun v17 => some (v17, σ14)) else (hk (inb x1 (gL σ 23 19)) <| Option.bind (fm_X21_bad 2 ((gC σ 23 19 x1)) σ) fun r23 => some (0, r23))
set_option maxRecDepth 20000 in
set_option maxHeartbeats 4000000 in
theorem okX21_checkName (l : Launch) (E : hc_E) (A : Nat → Prop) (d : Nat) (n : Nat) (hD : 3 ≤ d) {x1 : Int32} {σ : hc_St} {r : (Int32 × hc_St)} (h : fm_X21_checkName n x1 σ = some r) (am : Nat → Nat → Nat) : hc_M l hc_V0 yX21_checkName (ws_ yX21_checkName cX21_checkName 4 (some .int)) d E A [.ref (E.2.1 23), .int x1] am [] σ (.inl (some (.int r.1))) r.2 := by
  have hd1 : 1 ≤ d := by omega
  refine hc_enter2 (own := RX21) [(0, .ref (E.2.1 23)), (1, .int x1)] pl_X21 rfl hc_V0_st hc_G0_nd rfl (Nat.le_of_ble_eq_true rfl) (fun X hC hem => ?_)
  unfold fm_X21_checkName at h
  refine hr_aload_n hC dX21_checkName_0 rfl ?_
  refine hr_aload_n hC dX21_checkName_1 rfl ?_
  refine hr_gA hC F23_19 rfl dX21_checkName_2 q2861 ?_
  refine hr_iload_n hC dX21_checkName_5 rfl ?_
  obtain ⟨c1, h⟩ := hk_ok h
  refine hs_iald hC A23_19 c1 dX21_checkName_6 ?_
  refine hr_iconst (v := 0) hC dX21_checkName_7 rfl ?_
  obtain ⟨r2, e3, h⟩ := hx_bind h
  refine hs_callV0 hC 23 [_, _] _ dX21_checkName_8 q3406 q3408 qs238 q335 q3409 np_X21 rfl OB_23 pd_X21_find (Nat.le_of_ble_eq_true rfl) hd1 (okX21_find l E A (d - 1) n (by omega)  e3 am) rfl ?_
  refine hr_istore_n hC dX21_checkName_11 (by decide) ?_
  refine hr_iload_n hC dX21_checkName_12 rfl ?_
  refine hr_if_ge (x := _) hC 29 dX21_checkName_13 (by decide) (fun c7 => ?_) (fun c7 => ?_)
  · rw [if_pos c7] at h
    refine hr_aload_n hC dX21_checkName_29 rfl ?_
    refine hr_gA hC F23_40 rfl dX21_checkName_30 q2881 ?_
    refine hr_iload_n hC dX21_checkName_33 rfl ?_
    obtain ⟨c8, h⟩ := hk_ok h
    refine hs_iald hC A23_40 c8 dX21_checkName_34 ?_
    refine hr_istore_n hC dX21_checkName_35 (by decide) ?_
    refine hr_aload_n hC dX21_checkName_36 rfl ?_
    refine hr_gA hC F23_22 rfl dX21_checkName_37 q2864 ?_
    refine hr_iload_n hC dX21_checkName_40 rfl ?_
    refine hr_aload_n hC dX21_checkName_41 rfl ?_
    refine hr_gA hC F23_58 rfl dX21_checkName_42 q2899 ?_
    refine hr_iload_n hC dX21_checkName_45 rfl ?_
    obtain ⟨c9, h⟩ := hk_ok h
    refine hs_iald hC A23_58 c9 dX21_checkName_46 ?_
    obtain ⟨c10, h⟩ := hk_ok h
    obtain ⟨σ11, hσ11, h⟩ := hl_ok h
    refine hs_iast hC A23_22 c10 dX21_checkName_47 ?_
    rw [← hσ11]
    refine hr_aload_n hC dX21_checkName_48 rfl ?_
    refine hr_gA hC F23_23 rfl dX21_checkName_49 q2865 ?_
    refine hr_iload_n hC dX21_checkName_52 rfl ?_
    refine hr_aload_n hC dX21_checkName_53 rfl ?_
    refine hr_gA hC F23_41 rfl dX21_checkName_54 q2882 ?_
    refine hr_iload_n hC dX21_checkName_57 rfl ?_
    obtain ⟨c12, h⟩ := hk_ok h
    refine hs_iald hC A23_41 c12 dX21_checkName_58 ?_
    obtain ⟨c13, h⟩ := hk_ok h
    obtain ⟨σ14, hσ14, h⟩ := hl_ok h
    refine hs_iast hC A23_23 c13 dX21_checkName_59 ?_
    rw [← hσ14]
    refine hr_iload_n hC dX21_checkName_60 rfl ?_
    refine hr_iconst (v := 2) hC dX21_checkName_61 rfl ?_
    obtain ⟨v17, hv17, h⟩ := hl_ok h
    have J18 : ∀ w19 : Int32, (if (gC σ 23 40 r2) = 2 then 2 else (if (gC σ 23 40 r2) = 3 then 3 else 1)) = w19 → hc_At hc_V0 E 4 X 79 [] [.int w19] σ14 am [] := by
      intro w19 hw19
      obtain rfl := hv17.trans hw19
      obtain rfl := Option.some.inj h
      exact hr_iret hC dX21_checkName_79
    refine hr_icmp_ne (x := _) hC 69 dX21_checkName_62 (by decide) (fun c20 => ?_) (fun c20 => ?_)
    · refine hr_iload_n hC dX21_checkName_69 rfl ?_
      refine hr_iconst (v := 3) hC dX21_checkName_70 rfl ?_
      refine hr_icmp_ne (x := _) hC 78 dX21_checkName_71 (by decide) (fun c21 => ?_) (fun c21 => ?_)
      · refine hr_iconst (v := 1) hC dX21_checkName_78 rfl ?_
        exact hr_sub _ rfl (J18 _ (by first | (rw [if_neg c20, if_neg c21]; done) | (simp only [if_neg c20, if_neg c21]; done) | rfl))
      · refine hr_iconst (v := 3) hC dX21_checkName_74 rfl ?_
        refine hr_goto hC 79 dX21_checkName_75 (by decide) ?_
        exact hr_sub _ rfl (J18 _ (by first | (rw [if_neg c20, if_pos c21]; done) | (simp only [if_neg c20, if_pos c21]; done) | rfl))
    · refine hr_iconst (v := 2) hC dX21_checkName_65 rfl ?_
      refine hr_goto hC 79 dX21_checkName_66 (by decide) ?_
      exact hr_sub _ rfl (J18 _ (by first | (rw [if_pos c20]; done) | (simp only [if_pos c20]; done) | rfl))
  · rw [if_neg c7] at h
    refine hr_aload_n hC dX21_checkName_16 rfl ?_
    refine hr_iconst (v := 2) hC dX21_checkName_17 rfl ?_
    refine hr_aload_n hC dX21_checkName_18 rfl ?_
    refine hr_gA hC F23_19 rfl dX21_checkName_19 q2861 ?_
    refine hr_iload_n hC dX21_checkName_22 rfl ?_
    obtain ⟨c22, h⟩ := hk_ok h
    refine hs_iald hC A23_19 c22 dX21_checkName_23 ?_
    obtain ⟨r23, e24, h⟩ := hx_bind h
    refine hs_callV0 hC 23 [_, _] _ dX21_checkName_24 q3398 q3400 qs236 q335 q3401 np_X21 rfl OB_23 pd_X21_bad (Nat.le_of_ble_eq_true rfl) hd1 (okX21_bad l E A (d - 1)  (by omega)  e24 am) rfl ?_
    refine hr_iconst (v := 0) hC dX21_checkName_27 rfl ?_
    obtain rfl := Option.some.inj h
    exact hr_iret hC dX21_checkName_28
def lp_X21_taken_53 (n : Nat) : Nat → Int32 → Int32 → Int32 → hc_St → Option (Int32)
  | 0, _, _, _, _ => none
  | m + 1, y3, y4, y5, σ => if y3 ≤ y5 then (some (y4)) else (if y4 < 0 then (some (y4)) else (hk (inb y4 (gL σ 23 25)) <| lp_X21_taken_53 n m y3 ((gC σ 23 25 y4)) ((y5 + 1)) σ))
/-- HomeCompilerModel.taken(III)I -/
def fm_X21_taken (n : Nat) (x1 : Int32) (x2 : Int32) (x3 : Int32) (σ : hc_St) : Option Int32 := if 0 ≤ x1 then (hk (inb x1 (gL σ 23 44)) <| hk (inb ((gC σ 23 44 x1)) (gL σ 23 21)) <| Option.bind (lp_X21_taken_53 n n x3 ((gC σ 23 21 ((gC σ 23 44 x1)))) 0 σ) fun r10 => Option.bind (α := Int32) (if 0 ≤ r10 then (hk (inb r10 (gL σ 23 21)) <| if 0 ≤ (gC σ 23 21 r10) then (hk (inb r10 (gL σ 23 26)) <| if (gC σ 23 26 r10) = 0 then (some (115)) else (some (99))) else (some (105))) else (some (32))) fun r17 => some r17) else (hk (inb x2 (gL σ 23 3)) <| hk (hsi ((gC σ 23 3 x2))) <| Option.bind (α := Int32) (if (sLen ((gC σ 23 3 x2))) ≤ (x3 + 1) then (some (32)) else (hk (inb x2 (gL σ 23 3)) <| hk (hsc ((gC σ 23 3 x2)) ((x3 + 1))) <| some ((sCh ((gC σ 23 3 x2)) ((x3 + 1)))))) fun r31 => some r31)
set_option maxRecDepth 20000 in
set_option maxHeartbeats 4000000 in
theorem ll_X21_taken_53 {l : Launch} {E : hc_E} {A : Nat → Prop} {am : Nat → Nat → Nat} {d : Nat} {X : hc_X} (n : Nat) (hD : 9 ≤ d) (hem : X.2.2.2.2.2.2.2.2.2.1.exceptionTable.isEmpty = true) {oc : hc_Oc} {σe : hc_St} (hC : hc_C hc_V0 E cX21_taken 6 RX21 (some .int) d oc σe (l, A, am, []) X) : ∀ (m : Nat) (σ : hc_St) (y3 : Int32) (y4 : Int32) (y5 : Int32) (rl : Int32) (am1 : Nat → Nat → Nat), lp_X21_taken_53 n m y3 y4 y5 σ = some rl → (hc_At hc_V0 E 6 X 79 [(0, .ref (E.2.1 23)), (4, .int rl)] [] σ am1 []) → hc_At hc_V0 E 6 X 53 [(0, .ref (E.2.1 23)), (3, .int y3), (4, .int y4), (5, .int y5)] [] σ am1 [] := by
  have hd1 : 1 ≤ d := by omega
  have hd8 : 9 ≤ d := by omega
  intro m
  induction m with
  | zero =>
    intro σ y3 y4 y5 rl am1 h
    cases h
  | succ m ih =>
    intro σ y3 y4 y5 rl am1 h JX
    rw [lp_X21_taken_53] at h
    refine hr_iload hC dX21_taken_53 rfl ?_
    refine hr_iload_n hC dX21_taken_55 rfl ?_
    refine hr_icmp_ge (x := _) hC 79 dX21_taken_56 (by decide) (fun c6 => ?_) (fun c6 => ?_)
    · rw [if_pos c6] at h
      obtain rfl := Option.some.inj h
      exact hr_sub _ rfl (JX)
    · rw [if_neg c6] at h
      refine hr_iload hC dX21_taken_59 rfl ?_
      refine hr_if_lt (x := _) hC 79 dX21_taken_61 (by decide) (fun c8 => ?_) (fun c8 => ?_)
      · rw [if_pos c8] at h
        obtain rfl := Option.some.inj h
        exact hr_sub _ rfl (JX)
      · rw [if_neg c8] at h
        refine hr_aload_n hC dX21_taken_64 rfl ?_
        refine hr_gA hC F23_25 rfl dX21_taken_65 q2867 ?_
        refine hr_iload hC dX21_taken_68 rfl ?_
        obtain ⟨c9, h⟩ := hk_ok h
        refine hs_iald hC A23_25 c9 dX21_taken_70 ?_
        refine hr_istore hC dX21_taken_71 (by decide) ?_
        refine hr_iinc (v := y5 + 1) hC dX21_taken_73 rfl rfl (by decide) ?_
        refine hr_goto hC 53 dX21_taken_76 (by decide) ?_
        exact hr_sub _ rfl (ih _ _ _ _ _ am1 h JX)
set_option maxRecDepth 20000 in
set_option maxHeartbeats 4000000 in
theorem okX21_taken (l : Launch) (E : hc_E) (A : Nat → Prop) (d : Nat) (n : Nat) (hD : 9 ≤ d) {x1 : Int32} {x2 : Int32} {x3 : Int32} {σ : hc_St} {r : Int32} (h : fm_X21_taken n x1 x2 x3 σ = some r) (am : Nat → Nat → Nat) : hc_M l hc_V0 yX21_taken (ws_ yX21_taken cX21_taken 6 (some .int)) d E A [.ref (E.2.1 23), .int x1, .int x2, .int x3] am [] σ (.inl (some (.int r))) σ := by
  have hd1 : 1 ≤ d := by omega
  have hd8 : 9 ≤ d := by omega
  refine hc_enter2 (own := RX21) [(0, .ref (E.2.1 23)), (1, .int x1), (2, .int x2), (3, .int x3)] pl_X21 rfl hc_V0_st hc_G0_nd rfl (Nat.le_of_ble_eq_true rfl) (fun X hC hem => ?_)
  unfold fm_X21_taken at h
  refine hr_iload_n hC dX21_taken_0 rfl ?_
  refine hr_if_ge (x := _) hC 37 dX21_taken_1 (by decide) (fun c2 => ?_) (fun c2 => ?_)
  · rw [if_pos c2] at h
    refine hr_aload_n hC dX21_taken_37 rfl ?_
    refine hr_gA hC F23_21 rfl dX21_taken_38 q2863 ?_
    refine hr_aload_n hC dX21_taken_41 rfl ?_
    refine hr_gA hC F23_44 rfl dX21_taken_42 q2885 ?_
    refine hr_iload_n hC dX21_taken_45 rfl ?_
    obtain ⟨c3, h⟩ := hk_ok h
    refine hs_iald hC A23_44 c3 dX21_taken_46 ?_
    obtain ⟨c4, h⟩ := hk_ok h
    refine hs_iald hC A23_21 c4 dX21_taken_47 ?_
    refine hr_istore hC dX21_taken_48 (by decide) ?_
    refine hr_iconst (v := 0) hC dX21_taken_50 rfl ?_
    refine hr_istore hC dX21_taken_51 (by decide) ?_
    obtain ⟨r10, e11, h⟩ := hx_bind h
    refine hr_sub _ rfl (ll_X21_taken_53 n hD hem hC n _ _ _ _ _ am e11 ?_)
    refine hr_iload hC dX21_taken_79 rfl ?_
    obtain ⟨r17, e18, h⟩ := hx_bind h
    have J19 : hc_At hc_V0 E 6 X 121 [] [.int r17] σ am [] := by
      obtain rfl := Option.some.inj h
      exact hr_iret hC dX21_taken_121
    clear h
    have h := e18
    refine hr_if_ge (x := _) hC 89 dX21_taken_81 (by decide) (fun c16 => ?_) (fun c16 => ?_)
    · rw [if_pos c16] at h
      refine hr_aload_n hC dX21_taken_89 rfl ?_
      refine hr_gA hC F23_21 rfl dX21_taken_90 q2863 ?_
      refine hr_iload hC dX21_taken_93 rfl ?_
      obtain ⟨c21, h⟩ := hk_ok h
      refine hs_iald hC A23_21 c21 dX21_taken_95 ?_
      refine hr_if_ge (x := _) hC 104 dX21_taken_96 (by decide) (fun c23 => ?_) (fun c23 => ?_)
      · rw [if_pos c23] at h
        refine hr_aload_n hC dX21_taken_104 rfl ?_
        refine hr_gA hC F23_26 rfl dX21_taken_105 q2868 ?_
        refine hr_iload hC dX21_taken_108 rfl ?_
        obtain ⟨c24, h⟩ := hk_ok h
        refine hs_iald hC A23_26 c24 dX21_taken_110 ?_
        refine hr_if_ne (x := _) hC 119 dX21_taken_111 (by decide) (fun c26 => ?_) (fun c26 => ?_)
        · rw [if_neg c26] at h
          refine hr_bipush (v := 99) hC dX21_taken_119 rfl ?_
          obtain rfl := Option.some.inj h
          exact hr_sub _ rfl (J19)
        · rw [if_pos c26] at h
          refine hr_bipush (v := 115) hC dX21_taken_114 rfl ?_
          refine hr_goto hC 121 dX21_taken_116 (by decide) ?_
          obtain rfl := Option.some.inj h
          exact hr_sub _ rfl (J19)
      · rw [if_neg c23] at h
        refine hr_bipush (v := 105) hC dX21_taken_99 rfl ?_
        refine hr_goto hC 121 dX21_taken_101 (by decide) ?_
        obtain rfl := Option.some.inj h
        exact hr_sub _ rfl (J19)
    · rw [if_neg c16] at h
      refine hr_bipush (v := 32) hC dX21_taken_84 rfl ?_
      refine hr_goto hC 121 dX21_taken_86 (by decide) ?_
      obtain rfl := Option.some.inj h
      exact hr_sub _ rfl (J19)
  · rw [if_neg c2] at h
    refine hr_iload_n hC dX21_taken_4 rfl ?_
    refine hr_iconst (v := 1) hC dX21_taken_5 rfl ?_
    refine hr_iadd hC dX21_taken_6 ?_
    refine hr_aload_n hC dX21_taken_7 rfl ?_
    refine hr_gA hC F23_3 rfl dX21_taken_8 q2845 ?_
    refine hr_iload_n hC dX21_taken_11 rfl ?_
    obtain ⟨c27, h⟩ := hk_ok h
    refine hs_sald hC A23_3 c27 dX21_taken_12 ?_
    obtain ⟨c28, h⟩ := hk_ok h
    refine hr_slen hC c28 dX21_taken_13 q3145 hd8 (Nat.le_of_ble_eq_true rfl) ?_
    obtain ⟨r31, e32, h⟩ := hx_bind h
    have J33 : hc_At hc_V0 E 6 X 36 [] [.int r31] σ am [] := by
      obtain rfl := Option.some.inj h
      exact hr_iret hC dX21_taken_36
    clear h
    have h := e32
    refine hr_icmp_ge (x := _) hC 34 dX21_taken_16 (by decide) (fun c30 => ?_) (fun c30 => ?_)
    · rw [if_pos c30] at h
      refine hr_bipush (v := 32) hC dX21_taken_34 rfl ?_
      obtain rfl := Option.some.inj h
      exact hr_sub _ rfl (J33)
    · rw [if_neg c30] at h
      refine hr_aload_n hC dX21_taken_19 rfl ?_
      refine hr_gA hC F23_3 rfl dX21_taken_20 q2845 ?_
      refine hr_iload_n hC dX21_taken_23 rfl ?_
      obtain ⟨c35, h⟩ := hk_ok h
      refine hs_sald hC A23_3 c35 dX21_taken_24 ?_
      refine hr_iload_n hC dX21_taken_25 rfl ?_
      refine hr_iconst (v := 1) hC dX21_taken_26 rfl ?_
      refine hr_iadd hC dX21_taken_27 ?_
      obtain ⟨c36, h⟩ := hk_ok h
      refine hr_schar hC c36 dX21_taken_28 q3150 hd8 (Nat.le_of_ble_eq_true rfl) ?_
      refine hr_goto hC 36 dX21_taken_31 (by decide) ?_
      obtain rfl := Option.some.inj h
      exact hr_sub _ rfl (J33)
/-- HomeCompilerModel.first(I)I -/
def fm_X21_first  (x1 : Int32) (σ : hc_St) : Option Int32 := hk (inb x1 (gL σ 23 20)) <| some ((gC σ 23 20 x1))
set_option maxRecDepth 20000 in
set_option maxHeartbeats 4000000 in
theorem okX21_first (l : Launch) (E : hc_E) (A : Nat → Prop) (d : Nat)  (hD : 1 ≤ d) {x1 : Int32} {σ : hc_St} {r : Int32} (h : fm_X21_first  x1 σ = some r) (am : Nat → Nat → Nat) : hc_M l hc_V0 yX21_first (ws_ yX21_first cX21_first 2 (some .int)) d E A [.ref (E.2.1 23), .int x1] am [] σ (.inl (some (.int r))) σ := by
  have hd1 : 1 ≤ d := by omega
  refine hc_enter2 (own := RX21) [(0, .ref (E.2.1 23)), (1, .int x1)] pl_X21 rfl hc_V0_st hc_G0_nd rfl (Nat.le_of_ble_eq_true rfl) (fun X hC hem => ?_)
  unfold fm_X21_first at h
  refine hr_aload_n hC dX21_first_0 rfl ?_
  refine hr_gA hC F23_20 rfl dX21_first_1 q2862 ?_
  refine hr_iload_n hC dX21_first_4 rfl ?_
  obtain ⟨c1, h⟩ := hk_ok h
  refine hs_iald hC A23_20 c1 dX21_first_5 ?_
  obtain rfl := Option.some.inj h
  exact hr_iret hC dX21_first_6
/-- HomeCompilerModel.meetName(I)V -/
def fm_X21_meetName (n : Nat) (x1 : Int32) (σ : hc_St) : Option hc_St := Option.bind (fm_X21_checkName n x1 σ) fun r1 => if r1.1 = 0 then (hl (pI r1.2 23 52 1) fun σ37 => some σ37) else (Option.bind (α := hc_St) (if r1.1 = 1 then (some (r1.2)) else (Option.bind (fm_X21_first x1 r1.2) fun r13 => Option.bind (fm_X21_bad 3 r13 r1.2) fun r17 => some (r17))) fun r9 => Option.bind (α := Int32) (if (gI r9 23 51) = 0 then (hk (inb x1 (gL r9 23 19)) <| Option.bind (fm_X21_find n ((gC r9 23 19 x1)) 0 r9) fun r28 => hk (inb r28 (gL r9 23 40)) <| if (gC r9 23 40 r28) = 4 then (some (0)) else (some (1))) else (some (1))) fun r23 => hk (hb01 r23) <| hl (pI r9 23 51 r23) fun σ35 => some σ35)
set_option maxRecDepth 20000 in
set_option maxHeartbeats 4000000 in
theorem okX21_meetName (l : Launch) (E : hc_E) (A : Nat → Prop) (d : Nat) (n : Nat) (hD : 4 ≤ d) {x1 : Int32} {σ : hc_St} {r : hc_St} (h : fm_X21_meetName n x1 σ = some r) (am : Nat → Nat → Nat) : hc_M l hc_V0 yX21_meetName (ws_ yX21_meetName cX21_meetName 3 none) d E A [.ref (E.2.1 23), .int x1] am [] σ (.inl none) r := by
  have hd1 : 1 ≤ d := by omega
  refine hc_enter2 (own := RX21) [(0, .ref (E.2.1 23)), (1, .int x1)] pl_X21 rfl hc_V0_st hc_G0_nd rfl (Nat.le_of_ble_eq_true rfl) (fun X hC hem => ?_)
  unfold fm_X21_meetName at h
  refine hr_aload_n hC dX21_meetName_0 rfl ?_
  refine hr_iload_n hC dX21_meetName_1 rfl ?_
  obtain ⟨r1, e2, h⟩ := hx_bind h
  refine hs_callV0 hC 23 [_] _ dX21_meetName_2 q3446 q3448 qs248 q335 q3449 np_X21 rfl OB_23 pd_X21_checkName (Nat.le_of_ble_eq_true rfl) hd1 (okX21_checkName l E A (d - 1) n (by omega)  e2 am) rfl ?_
  refine hr_istore_n hC dX21_meetName_5 (by decide) ?_
  refine hr_iload_n hC dX21_meetName_6 rfl ?_
  refine hr_if_ne (x := _) hC 16 dX21_meetName_7 (by decide) (fun c6 => ?_) (fun c6 => ?_)
  · rw [if_neg c6] at h
    refine hr_iload_n hC dX21_meetName_16 rfl ?_
    refine hr_iconst (v := 1) hC dX21_meetName_17 rfl ?_
    obtain ⟨r9, e10, h⟩ := hx_bind h
    have J11 : hc_At hc_V0 E 3 X 31 [(0, .ref (E.2.1 23)), (1, .int x1)] [] r9 am [] := by
      refine hr_aload_n hC dX21_meetName_31 rfl ?_
      refine hr_aload_n hC dX21_meetName_32 rfl ?_
      refine hr_gI hC F23_51 dX21_meetName_33 q2892 ?_
      obtain ⟨r23, e24, h⟩ := hx_bind h
      have J25 : hc_At hc_V0 E 3 X 64 [] [.int r23, .ref (E.2.1 23)] r9 am [] := by
        obtain ⟨c36, h⟩ := hk_ok h
        obtain ⟨σ35, hσ35, h⟩ := hl_ok h
        refine hr_pZ hC F23_51 PX21_51 c36 dX21_meetName_64 q2892 ?_
        rw [← hσ35]
        obtain rfl := Option.some.inj h
        exact hr_vret hC dX21_meetName_67
      clear h
      have h := e24
      refine hr_if_ne (x := _) hC 59 dX21_meetName_36 (by decide) (fun c22 => ?_) (fun c22 => ?_)
      · rw [if_neg c22] at h
        refine hr_iconst (v := 1) hC dX21_meetName_59 rfl ?_
        refine hr_goto hC 64 dX21_meetName_60 (by decide) ?_
        obtain rfl := Option.some.inj h
        exact hr_sub _ rfl (J25)
      · rw [if_pos c22] at h
        refine hr_aload_n hC dX21_meetName_39 rfl ?_
        refine hr_gA hC F23_40 rfl dX21_meetName_40 q2881 ?_
        refine hr_aload_n hC dX21_meetName_43 rfl ?_
        refine hr_aload_n hC dX21_meetName_44 rfl ?_
        refine hr_gA hC F23_19 rfl dX21_meetName_45 q2861 ?_
        refine hr_iload_n hC dX21_meetName_48 rfl ?_
        obtain ⟨c27, h⟩ := hk_ok h
        refine hs_iald hC A23_19 c27 dX21_meetName_49 ?_
        refine hr_iconst (v := 0) hC dX21_meetName_50 rfl ?_
        obtain ⟨r28, e29, h⟩ := hx_bind h
        refine hs_callV0 hC 23 [_, _] _ dX21_meetName_51 q3406 q3408 qs238 q335 q3409 np_X21 rfl OB_23 pd_X21_find (Nat.le_of_ble_eq_true rfl) hd1 (okX21_find l E A (d - 1) n (by omega)  e29 am) rfl ?_
        obtain ⟨c32, h⟩ := hk_ok h
        refine hs_iald hC A23_40 c32 dX21_meetName_54 ?_
        refine hr_iconst (v := 4) hC dX21_meetName_55 rfl ?_
        refine hr_icmp_eq (x := _) hC 63 dX21_meetName_56 (by decide) (fun c34 => ?_) (fun c34 => ?_)
        · rw [if_pos c34] at h
          refine hr_iconst (v := 0) hC dX21_meetName_63 rfl ?_
          obtain rfl := Option.some.inj h
          exact hr_sub _ rfl (J25)
        · rw [if_neg c34] at h
          refine hr_iconst (v := 1) hC dX21_meetName_59 rfl ?_
          refine hr_goto hC 64 dX21_meetName_60 (by decide) ?_
          obtain rfl := Option.some.inj h
          exact hr_sub _ rfl (J25)
    clear h
    have h := e10
    refine hr_icmp_eq (x := _) hC 31 dX21_meetName_18 (by decide) (fun c8 => ?_) (fun c8 => ?_)
    · rw [if_pos c8] at h
      obtain rfl := Option.some.inj h
      exact hr_sub _ rfl (J11)
    · rw [if_neg c8] at h
      refine hr_aload_n hC dX21_meetName_21 rfl ?_
      refine hr_iconst (v := 3) hC dX21_meetName_22 rfl ?_
      refine hr_aload_n hC dX21_meetName_23 rfl ?_
      refine hr_iload_n hC dX21_meetName_24 rfl ?_
      obtain ⟨r13, e14, h⟩ := hx_bind h
      refine hs_callV0 hC 23 [_] _ dX21_meetName_25 q3474 q3476 qs255 q335 q3477 np_X21 rfl OB_23 pd_X21_first (Nat.le_of_ble_eq_true rfl) hd1 (okX21_first l E A (d - 1)  (by omega)  e14 am) rfl ?_
      obtain ⟨r17, e18, h⟩ := hx_bind h
      refine hs_callV0 hC 23 [_, _] _ dX21_meetName_28 q3398 q3400 qs236 q335 q3401 np_X21 rfl OB_23 pd_X21_bad (Nat.le_of_ble_eq_true rfl) hd1 (okX21_bad l E A (d - 1)  (by omega)  e18 am) rfl ?_
      obtain rfl := Option.some.inj h
      exact hr_sub _ rfl (J11)
  · rw [if_pos c6] at h
    refine hr_aload_n hC dX21_meetName_10 rfl ?_
    refine hr_iconst (v := 1) hC dX21_meetName_11 rfl ?_
    obtain ⟨σ37, hσ37, h⟩ := hl_ok h
    refine hr_pZ hC F23_52 PX21_52 (by decide) dX21_meetName_12 q2893 ?_
    rw [← hσ37]
    obtain rfl := Option.some.inj h
    exact hr_vret hC dX21_meetName_15
/-- HomeCompilerModel.two(III)I -/
def fm_X21_two  (x1 : Int32) (x2 : Int32) (x3 : Int32) (σ : hc_St) : Option (Int32 × hc_St) := hk (inb x1 (gL σ 23 14)) <| hk (inb ((gC σ 23 14 x1)) (gL σ 23 1)) <| hk (hsi ((gC σ 23 1 ((gC σ 23 14 x1))))) <| if (sLen ((gC σ 23 1 ((gC σ 23 14 x1))))) = 2 then (hk (hsi ((gC σ 23 1 ((gC σ 23 14 x1)))) && hsi 66) <| Option.bind (α := Int32) (if (sEq ((gC σ 23 1 ((gC σ 23 14 x1)))) 66) = 0 then (hk (hsi ((gC σ 23 1 ((gC σ 23 14 x1)))) && hsi 67) <| if (sEq ((gC σ 23 1 ((gC σ 23 14 x1)))) 67) = 0 then (hk (hsi ((gC σ 23 1 ((gC σ 23 14 x1)))) && hsi 68) <| if (sEq ((gC σ 23 1 ((gC σ 23 14 x1)))) 68) = 0 then (if x2 < x3 then (some (0)) else (some (1))) else (if x3 < x2 then (some (0)) else (some (1)))) else (if x2 = x3 then (some (0)) else (some (1)))) else (if x2 = x3 then (some (1)) else (some (0)))) fun r50 => hk (hsi ((gC σ 23 1 ((gC σ 23 14 x1)))) && hsi 70) <| Option.bind (α := Int32) (if (sEq ((gC σ 23 1 ((gC σ 23 14 x1)))) 70) = 0 then (hk (hsi ((gC σ 23 1 ((gC σ 23 14 x1)))) && hsi 71) <| if (sEq ((gC σ 23 1 ((gC σ 23 14 x1)))) 71) = 0 then (if r50 = 0 then (some (0)) else (some (1))) else (some ((jshr x2 x3)))) else (some ((jshl x2 x3)))) fun r71 => some (r71, σ)) else (hk (hsc ((gC σ 23 1 ((gC σ 23 14 x1)))) 0) <| if (sCh ((gC σ 23 1 ((gC σ 23 14 x1)))) 0) = 38 then (some ((x2 &&& x3), σ)) else if (sCh ((gC σ 23 1 ((gC σ 23 14 x1)))) 0) = 42 then (some ((x2 * x3), σ)) else if (sCh ((gC σ 23 1 ((gC σ 23 14 x1)))) 0) = 43 then (some ((x2 + x3), σ)) else if (sCh ((gC σ 23 1 ((gC σ 23 14 x1)))) 0) = 45 then (some ((x2 - x3), σ)) else if (sCh ((gC σ 23 1 ((gC σ 23 14 x1)))) 0) = 60 then (hl (α := Int32) ((if x3 ≤ x2 then 0 else 1)) fun v29 => some (v29, σ)) else if (sCh ((gC σ 23 1 ((gC σ 23 14 x1)))) 0) = 62 then (hl (α := Int32) ((if x2 ≤ x3 then 0 else 1)) fun v35 => some (v35, σ)) else if (sCh ((gC σ 23 1 ((gC σ 23 14 x1)))) 0) = 94 then (some ((x2 ^^^ x3), σ)) else if (sCh ((gC σ 23 1 ((gC σ 23 14 x1)))) 0) = 124 then (some ((x2 ||| x3), σ)) else (hl (α := Int32) ((if (gI σ 23 51) = 0 then (if x3 = 0 then 1 else 0) else 1)) fun v9 => hk (hb01 v9) <| hl (pI σ 23 51 v9) fun σ10 => Option.bind (α := Int32) (if x3 = 0 then (some (0)) else (hk (hsc ((gC σ 23 1 ((gC σ 23 14 x1)))) 0) <| if (sCh ((gC σ 23 1 ((gC σ 23 14 x1)))) 0) = 47 then (hk (decide (¬ x3 = 0)) <| some ((x2 / x3))) else (hk (decide (¬ x3 = 0)) <| some ((jrem x2 x3))))) fun r14 => some (r14, σ10)))
set_option maxRecDepth 20000 in
set_option maxHeartbeats 4000000 in
theorem okX21_two (l : Launch) (E : hc_E) (A : Nat → Prop) (d : Nat)  (hD : 9 ≤ d) {x1 : Int32} {x2 : Int32} {x3 : Int32} {σ : hc_St} {r : (Int32 × hc_St)} (h : fm_X21_two  x1 x2 x3 σ = some r) (am : Nat → Nat → Nat) : hc_M l hc_V0 yX21_two (ws_ yX21_two cX21_two 6 (some .int)) d E A [.ref (E.2.1 23), .int x1, .int x2, .int x3] am [] σ (.inl (some (.int r.1))) r.2 := by
  have hd1 : 1 ≤ d := by omega
  have hd8 : 9 ≤ d := by omega
  refine hc_enter2 (own := RX21) [(0, .ref (E.2.1 23)), (1, .int x1), (2, .int x2), (3, .int x3)] pl_X21 rfl hc_V0_st hc_G0_nd rfl (Nat.le_of_ble_eq_true rfl) (fun X hC hem => ?_)
  unfold fm_X21_two at h
  refine hr_aload_n hC dX21_two_0 rfl ?_
  refine hr_gA hC F23_1 rfl dX21_two_1 q2843 ?_
  refine hr_aload_n hC dX21_two_4 rfl ?_
  refine hr_gA hC F23_14 rfl dX21_two_5 q2856 ?_
  refine hr_iload_n hC dX21_two_8 rfl ?_
  obtain ⟨c1, h⟩ := hk_ok h
  refine hs_iald hC A23_14 c1 dX21_two_9 ?_
  obtain ⟨c2, h⟩ := hk_ok h
  refine hs_sald hC A23_1 c2 dX21_two_10 ?_
  refine hr_astore hC dX21_two_11 (by decide) ?_
  refine hr_aload hC dX21_two_13 rfl ?_
  obtain ⟨c3, h⟩ := hk_ok h
  refine hr_slen hC c3 dX21_two_15 q3145 hd8 (Nat.le_of_ble_eq_true rfl) ?_
  refine hr_iconst (v := 2) hC dX21_two_18 rfl ?_
  refine hr_icmp_ne (x := _) hC 146 dX21_two_19 (by decide) (fun c5 => ?_) (fun c5 => ?_)
  · rw [if_neg c5] at h
    refine hr_aload hC dX21_two_146 rfl ?_
    refine hr_iconst (v := 0) hC dX21_two_148 rfl ?_
    obtain ⟨c6, h⟩ := hk_ok h
    refine hr_schar hC c6 dX21_two_149 q3150 hd8 (Nat.le_of_ble_eq_true rfl) ?_
    by_cases c39 : (sCh ((gC σ 23 1 ((gC σ 23 14 x1)))) 0) = 38
    · rw [if_pos c39] at h
      refine hr_lookup hC 236 dX21_two_152 (by decide) (by rw [c39] <;> rfl) (by decide) ?_
      refine hr_iload_n hC dX21_two_236 rfl ?_
      refine hr_iload_n hC dX21_two_237 rfl ?_
      refine hr_iand hC dX21_two_238 ?_
      obtain rfl := Option.some.inj h
      exact hr_iret hC dX21_two_239
    rw [if_neg c39] at h
    by_cases c40 : (sCh ((gC σ 23 1 ((gC σ 23 14 x1)))) 0) = 42
    · rw [if_pos c40] at h
      refine hr_lookup hC 270 dX21_two_152 (by decide) (by rw [c40] <;> rfl) (by decide) ?_
      refine hr_iload_n hC dX21_two_270 rfl ?_
      refine hr_iload_n hC dX21_two_271 rfl ?_
      refine hr_imul hC dX21_two_272 ?_
      obtain rfl := Option.some.inj h
      exact hr_iret hC dX21_two_273
    rw [if_neg c40] at h
    by_cases c41 : (sCh ((gC σ 23 1 ((gC σ 23 14 x1)))) 0) = 43
    · rw [if_pos c41] at h
      refine hr_lookup hC 262 dX21_two_152 (by decide) (by rw [c41] <;> rfl) (by decide) ?_
      refine hr_iload_n hC dX21_two_262 rfl ?_
      refine hr_iload_n hC dX21_two_263 rfl ?_
      refine hr_iadd hC dX21_two_264 ?_
      obtain rfl := Option.some.inj h
      exact hr_iret hC dX21_two_265
    rw [if_neg c41] at h
    by_cases c42 : (sCh ((gC σ 23 1 ((gC σ 23 14 x1)))) 0) = 45
    · rw [if_pos c42] at h
      refine hr_lookup hC 266 dX21_two_152 (by decide) (by rw [c42] <;> rfl) (by decide) ?_
      refine hr_iload_n hC dX21_two_266 rfl ?_
      refine hr_iload_n hC dX21_two_267 rfl ?_
      refine hr_isub hC dX21_two_268 ?_
      obtain rfl := Option.some.inj h
      exact hr_iret hC dX21_two_269
    rw [if_neg c42] at h
    by_cases c43 : (sCh ((gC σ 23 1 ((gC σ 23 14 x1)))) 0) = 60
    · rw [if_pos c43] at h
      refine hr_lookup hC 240 dX21_two_152 (by decide) (by rw [c43] <;> rfl) (by decide) ?_
      refine hr_iload_n hC dX21_two_240 rfl ?_
      refine hr_iload_n hC dX21_two_241 rfl ?_
      obtain ⟨v29, hv29, h⟩ := hl_ok h
      have J30 : ∀ w31 : Int32, (if x3 ≤ x2 then 0 else 1) = w31 → hc_At hc_V0 E 6 X 250 [] [.int w31] σ am [] := by
        intro w31 hw31
        obtain rfl := hv29.trans hw31
        obtain rfl := Option.some.inj h
        exact hr_iret hC dX21_two_250
      refine hr_icmp_ge (x := _) hC 249 dX21_two_242 (by decide) (fun c32 => ?_) (fun c32 => ?_)
      · refine hr_iconst (v := 0) hC dX21_two_249 rfl ?_
        exact hr_sub _ rfl (J30 _ (by first | (rw [if_pos c32]; done) | (simp only [if_pos c32]; done) | rfl))
      · refine hr_iconst (v := 1) hC dX21_two_245 rfl ?_
        refine hr_goto hC 250 dX21_two_246 (by decide) ?_
        exact hr_sub _ rfl (J30 _ (by first | (rw [if_neg c32]; done) | (simp only [if_neg c32]; done) | rfl))
    rw [if_neg c43] at h
    by_cases c44 : (sCh ((gC σ 23 1 ((gC σ 23 14 x1)))) 0) = 62
    · rw [if_pos c44] at h
      refine hr_lookup hC 251 dX21_two_152 (by decide) (by rw [c44] <;> rfl) (by decide) ?_
      refine hr_iload_n hC dX21_two_251 rfl ?_
      refine hr_iload_n hC dX21_two_252 rfl ?_
      obtain ⟨v35, hv35, h⟩ := hl_ok h
      have J36 : ∀ w37 : Int32, (if x2 ≤ x3 then 0 else 1) = w37 → hc_At hc_V0 E 6 X 261 [] [.int w37] σ am [] := by
        intro w37 hw37
        obtain rfl := hv35.trans hw37
        obtain rfl := Option.some.inj h
        exact hr_iret hC dX21_two_261
      refine hr_icmp_le (x := _) hC 260 dX21_two_253 (by decide) (fun c38 => ?_) (fun c38 => ?_)
      · refine hr_iconst (v := 0) hC dX21_two_260 rfl ?_
        exact hr_sub _ rfl (J36 _ (by first | (rw [if_pos c38]; done) | (simp only [if_pos c38]; done) | rfl))
      · refine hr_iconst (v := 1) hC dX21_two_256 rfl ?_
        refine hr_goto hC 261 dX21_two_257 (by decide) ?_
        exact hr_sub _ rfl (J36 _ (by first | (rw [if_neg c38]; done) | (simp only [if_neg c38]; done) | rfl))
    rw [if_neg c44] at h
    by_cases c45 : (sCh ((gC σ 23 1 ((gC σ 23 14 x1)))) 0) = 94
    · rw [if_pos c45] at h
      refine hr_lookup hC 232 dX21_two_152 (by decide) (by rw [c45] <;> rfl) (by decide) ?_
      refine hr_iload_n hC dX21_two_232 rfl ?_
      refine hr_iload_n hC dX21_two_233 rfl ?_
      refine hr_ixor hC dX21_two_234 ?_
      obtain rfl := Option.some.inj h
      exact hr_iret hC dX21_two_235
    rw [if_neg c45] at h
    by_cases c46 : (sCh ((gC σ 23 1 ((gC σ 23 14 x1)))) 0) = 124
    · rw [if_pos c46] at h
      refine hr_lookup hC 228 dX21_two_152 (by decide) (by rw [c46] <;> rfl) (by decide) ?_
      refine hr_iload_n hC dX21_two_228 rfl ?_
      refine hr_iload_n hC dX21_two_229 rfl ?_
      refine hr_ior hC dX21_two_230 ?_
      obtain rfl := Option.some.inj h
      exact hr_iret hC dX21_two_231
    rw [if_neg c46] at h
    refine hr_lookup hC 274 dX21_two_152 (by decide) (hc_lkD (hc_l1 (hc_ne c39 rfl) (hc_l1 (hc_ne c40 rfl) (hc_l1 (hc_ne c41 rfl) (hc_l1 (hc_ne c42 rfl) (hc_l1 (hc_ne c43 rfl) (hc_l1 (hc_ne c44 rfl) (hc_l1 (hc_ne c45 rfl) (hc_l1 (hc_ne c46 rfl) hc_l0))))))))) (by decide) ?_
    refine hr_aload_n hC dX21_two_274 rfl ?_
    refine hr_aload_n hC dX21_two_275 rfl ?_
    refine hr_gI hC F23_51 dX21_two_276 q2892 ?_
    obtain ⟨v9, hv9, h⟩ := hl_ok h
    have J23 : ∀ w24 : Int32, (if (gI σ 23 51) = 0 then (if x3 = 0 then 1 else 0) else 1) = w24 → hc_At hc_V0 E 6 X 291 [(2, .int x2), (3, .int x3), (4, .ref (E.2.2.2.1 ((gC σ 23 1 ((gC σ 23 14 x1))) : Int32).toNatClampNeg))] [.int w24, .ref (E.2.1 23)] σ am [] := by
      intro w24 hw24
      obtain rfl := hv9.trans hw24
      obtain ⟨c11, h⟩ := hk_ok h
      obtain ⟨σ10, hσ10, h⟩ := hl_ok h
      refine hr_pZ hC F23_51 PX21_51 c11 dX21_two_291 q2892 ?_
      rw [← hσ10]
      refine hr_iload_n hC dX21_two_294 rfl ?_
      obtain ⟨r14, e15, h⟩ := hx_bind h
      have J16 : hc_At hc_V0 E 6 X 322 [] [.int r14] σ10 am [] := by
        obtain rfl := Option.some.inj h
        exact hr_iret hC dX21_two_322
      clear h
      have h := e15
      refine hr_if_ne (x := _) hC 302 dX21_two_295 (by decide) (fun c13 => ?_) (fun c13 => ?_)
      · rw [if_neg c13] at h
        refine hr_aload hC dX21_two_302 rfl ?_
        refine hr_iconst (v := 0) hC dX21_two_304 rfl ?_
        obtain ⟨c18, h⟩ := hk_ok h
        refine hr_schar hC c18 dX21_two_305 q3150 hd8 (Nat.le_of_ble_eq_true rfl) ?_
        refine hr_bipush (v := 47) hC dX21_two_308 rfl ?_
        refine hr_icmp_ne (x := _) hC 319 dX21_two_310 (by decide) (fun c20 => ?_) (fun c20 => ?_)
        · rw [if_neg c20] at h
          refine hr_iload_n hC dX21_two_319 rfl ?_
          refine hr_iload_n hC dX21_two_320 rfl ?_
          obtain ⟨c21, h⟩ := hk_ok h
          refine hr_irem hC dX21_two_321 (of_decide_eq_true c21) ?_
          obtain rfl := Option.some.inj h
          exact hr_sub _ rfl (J16)
        · rw [if_pos c20] at h
          refine hr_iload_n hC dX21_two_313 rfl ?_
          refine hr_iload_n hC dX21_two_314 rfl ?_
          obtain ⟨c22, h⟩ := hk_ok h
          refine hr_idiv hC dX21_two_315 (of_decide_eq_true c22) ?_
          refine hr_goto hC 322 dX21_two_316 (by decide) ?_
          obtain rfl := Option.some.inj h
          exact hr_sub _ rfl (J16)
      · rw [if_pos c13] at h
        refine hr_iconst (v := 0) hC dX21_two_298 rfl ?_
        refine hr_goto hC 322 dX21_two_299 (by decide) ?_
        obtain rfl := Option.some.inj h
        exact hr_sub _ rfl (J16)
    refine hr_if_ne (x := _) hC 286 dX21_two_279 (by decide) (fun c25 => ?_) (fun c25 => ?_)
    · refine hr_iconst (v := 1) hC dX21_two_286 rfl ?_
      refine hr_goto hC 291 dX21_two_287 (by decide) ?_
      exact hr_sub _ rfl (J23 _ (by first | (rw [if_neg c25]; done) | (simp only [if_neg c25]; done) | rfl))
    · refine hr_iload_n hC dX21_two_282 rfl ?_
      refine hr_if_ne (x := _) hC 290 dX21_two_283 (by decide) (fun c26 => ?_) (fun c26 => ?_)
      · refine hr_iconst (v := 0) hC dX21_two_290 rfl ?_
        exact hr_sub _ rfl (J23 _ (by first | (rw [if_pos c25, if_neg c26]; done) | (simp only [if_pos c25, if_neg c26]; done) | rfl))
      · refine hr_iconst (v := 1) hC dX21_two_286 rfl ?_
        refine hr_goto hC 291 dX21_two_287 (by decide) ?_
        exact hr_sub _ rfl (J23 _ (by first | (rw [if_pos c25, if_pos c26]; done) | (simp only [if_pos c25, if_pos c26]; done) | rfl))
  · rw [if_pos c5] at h
    refine hr_aload hC dX21_two_22 rfl ?_
    refine hr_ldcs (v := 66) 66 hC dX21_two_24 (List.mem_of_getElem? (i := 66) rfl) (by decide) rfl ?_
    obtain ⟨c47, h⟩ := hk_ok h
    refine hr_seq hC c47 dX21_two_26 q3210 hd8 (Nat.le_of_ble_eq_true rfl) ?_
    obtain ⟨r50, e51, h⟩ := hx_bind h
    have J52 : hc_At hc_V0 E 6 X 101 [(2, .int x2), (3, .int x3), (4, .ref (E.2.2.2.1 ((gC σ 23 1 ((gC σ 23 14 x1))) : Int32).toNatClampNeg))] [.int r50] σ am [] := by
      refine hr_istore hC dX21_two_101 (by decide) ?_
      refine hr_aload hC dX21_two_103 rfl ?_
      refine hr_ldcs (v := 70) 70 hC dX21_two_105 (List.mem_of_getElem? (i := 70) rfl) (by decide) rfl ?_
      obtain ⟨c68, h⟩ := hk_ok h
      refine hr_seq hC c68 dX21_two_107 q3210 hd8 (Nat.le_of_ble_eq_true rfl) ?_
      obtain ⟨r71, e72, h⟩ := hx_bind h
      have J73 : hc_At hc_V0 E 6 X 145 [] [.int r71] σ am [] := by
        obtain rfl := Option.some.inj h
        exact hr_iret hC dX21_two_145
      clear h
      have h := e72
      refine hr_if_eq (x := _) hC 119 dX21_two_110 (by decide) (fun c70 => ?_) (fun c70 => ?_)
      · rw [if_pos c70] at h
        refine hr_aload hC dX21_two_119 rfl ?_
        refine hr_ldcs (v := 71) 71 hC dX21_two_121 (List.mem_of_getElem? (i := 71) rfl) (by decide) rfl ?_
        obtain ⟨c75, h⟩ := hk_ok h
        refine hr_seq hC c75 dX21_two_123 q3210 hd8 (Nat.le_of_ble_eq_true rfl) ?_
        refine hr_if_eq (x := _) hC 135 dX21_two_126 (by decide) (fun c77 => ?_) (fun c77 => ?_)
        · rw [if_pos c77] at h
          refine hr_iload hC dX21_two_135 rfl ?_
          refine hr_if_eq (x := _) hC 144 dX21_two_137 (by decide) (fun c79 => ?_) (fun c79 => ?_)
          · rw [if_pos c79] at h
            refine hr_iconst (v := 0) hC dX21_two_144 rfl ?_
            obtain rfl := Option.some.inj h
            exact hr_sub _ rfl (J73)
          · rw [if_neg c79] at h
            refine hr_iconst (v := 1) hC dX21_two_140 rfl ?_
            refine hr_goto hC 145 dX21_two_141 (by decide) ?_
            obtain rfl := Option.some.inj h
            exact hr_sub _ rfl (J73)
        · rw [if_neg c77] at h
          refine hr_iload_n hC dX21_two_129 rfl ?_
          refine hr_iload_n hC dX21_two_130 rfl ?_
          refine hr_ishr hC dX21_two_131 ?_
          refine hr_goto hC 145 dX21_two_132 (by decide) ?_
          obtain rfl := Option.some.inj h
          exact hr_sub _ rfl (J73)
      · rw [if_neg c70] at h
        refine hr_iload_n hC dX21_two_113 rfl ?_
        refine hr_iload_n hC dX21_two_114 rfl ?_
        refine hr_ishl hC dX21_two_115 ?_
        refine hr_goto hC 145 dX21_two_116 (by decide) ?_
        obtain rfl := Option.some.inj h
        exact hr_sub _ rfl (J73)
    clear h
    have h := e51
    refine hr_if_eq (x := _) hC 45 dX21_two_29 (by decide) (fun c49 => ?_) (fun c49 => ?_)
    · rw [if_pos c49] at h
      refine hr_aload hC dX21_two_45 rfl ?_
      refine hr_ldcs (v := 67) 67 hC dX21_two_47 (List.mem_of_getElem? (i := 67) rfl) (by decide) rfl ?_
      obtain ⟨c54, h⟩ := hk_ok h
      refine hr_seq hC c54 dX21_two_49 q3210 hd8 (Nat.le_of_ble_eq_true rfl) ?_
      refine hr_if_eq (x := _) hC 68 dX21_two_52 (by decide) (fun c56 => ?_) (fun c56 => ?_)
      · rw [if_pos c56] at h
        refine hr_aload hC dX21_two_68 rfl ?_
        refine hr_ldcs (v := 68) 68 hC dX21_two_70 (List.mem_of_getElem? (i := 68) rfl) (by decide) rfl ?_
        obtain ⟨c57, h⟩ := hk_ok h
        refine hr_seq hC c57 dX21_two_72 q3210 hd8 (Nat.le_of_ble_eq_true rfl) ?_
        refine hr_if_eq (x := _) hC 91 dX21_two_75 (by decide) (fun c59 => ?_) (fun c59 => ?_)
        · rw [if_pos c59] at h
          refine hr_iload_n hC dX21_two_91 rfl ?_
          refine hr_iload_n hC dX21_two_92 rfl ?_
          refine hr_icmp_lt (x := _) hC 100 dX21_two_93 (by decide) (fun c61 => ?_) (fun c61 => ?_)
          · rw [if_pos c61] at h
            refine hr_iconst (v := 0) hC dX21_two_100 rfl ?_
            obtain rfl := Option.some.inj h
            exact hr_sub _ rfl (J52)
          · rw [if_neg c61] at h
            refine hr_iconst (v := 1) hC dX21_two_96 rfl ?_
            refine hr_goto hC 101 dX21_two_97 (by decide) ?_
            obtain rfl := Option.some.inj h
            exact hr_sub _ rfl (J52)
        · rw [if_neg c59] at h
          refine hr_iload_n hC dX21_two_78 rfl ?_
          refine hr_iload_n hC dX21_two_79 rfl ?_
          refine hr_icmp_gt (x := _) hC 87 dX21_two_80 (by decide) (fun c63 => ?_) (fun c63 => ?_)
          · rw [if_pos c63] at h
            refine hr_iconst (v := 0) hC dX21_two_87 rfl ?_
            refine hr_goto hC 101 dX21_two_88 (by decide) ?_
            obtain rfl := Option.some.inj h
            exact hr_sub _ rfl (J52)
          · rw [if_neg c63] at h
            refine hr_iconst (v := 1) hC dX21_two_83 rfl ?_
            refine hr_goto hC 101 dX21_two_84 (by decide) ?_
            obtain rfl := Option.some.inj h
            exact hr_sub _ rfl (J52)
      · rw [if_neg c56] at h
        refine hr_iload_n hC dX21_two_55 rfl ?_
        refine hr_iload_n hC dX21_two_56 rfl ?_
        refine hr_icmp_eq (x := _) hC 64 dX21_two_57 (by decide) (fun c65 => ?_) (fun c65 => ?_)
        · rw [if_pos c65] at h
          refine hr_iconst (v := 0) hC dX21_two_64 rfl ?_
          refine hr_goto hC 101 dX21_two_65 (by decide) ?_
          obtain rfl := Option.some.inj h
          exact hr_sub _ rfl (J52)
        · rw [if_neg c65] at h
          refine hr_iconst (v := 1) hC dX21_two_60 rfl ?_
          refine hr_goto hC 101 dX21_two_61 (by decide) ?_
          obtain rfl := Option.some.inj h
          exact hr_sub _ rfl (J52)
    · rw [if_neg c49] at h
      refine hr_iload_n hC dX21_two_32 rfl ?_
      refine hr_iload_n hC dX21_two_33 rfl ?_
      refine hr_icmp_ne (x := _) hC 41 dX21_two_34 (by decide) (fun c67 => ?_) (fun c67 => ?_)
      · rw [if_neg c67] at h
        refine hr_iconst (v := 0) hC dX21_two_41 rfl ?_
        refine hr_goto hC 101 dX21_two_42 (by decide) ?_
        obtain rfl := Option.some.inj h
        exact hr_sub _ rfl (J52)
      · rw [if_pos c67] at h
        refine hr_iconst (v := 1) hC dX21_two_37 rfl ?_
        refine hr_goto hC 101 dX21_two_38 (by decide) ?_
        obtain rfl := Option.some.inj h
        exact hr_sub _ rfl (J52)
def okg_X21_reckon (l : Launch) (E : hc_E) (A : Nat → Prop) (d : Nat) (am : Nat → Nat → Nat) (w : Nat) (a : List Int32) (σ : hc_St) (r : (Int32 × hc_St)) : Prop := match w with
  | 0 => hc_M l hc_V0 yX21_reckon (ws_ yX21_reckon cX21_reckon 7 (some .int)) d E A [.ref (E.2.1 23), .int (a.getD 0 0)] am [] σ (.inl (some (.int r.1))) r.2
  | _ => True
def lp_X21_reckon_222 (n : Nat) (k0 : Nat) (rec : Nat → List Int32 → hc_St → Option (Int32 × hc_St)) : Nat → Int32 → Int32 → Int32 → hc_St → Option (hc_St × Int32)
  | 0, _, _, _, _ => none
  | m + 1, y4, y5, y6, σ => if y6 < 0 then (some (σ, y5)) else (Option.bind (α := hc_St × Int32) (if y4 = 1 then (Option.bind (α := hc_St × Int32) (if y5 = 0 then (Option.bind (rec 0 [y6] σ) fun r47 => if r47.1 = 0 then (some (r47.2, 0)) else (some (r47.2, 1))) else (some (σ, 1))) fun r43 => some (r43.1, r43.2)) else (if y4 = 2 then (Option.bind (α := hc_St × Int32) (if y5 = 0 then (some (σ, 0)) else (Option.bind (rec 0 [y6] σ) fun r35 => if r35.1 = 0 then (some (r35.2, 0)) else (some (r35.2, 1)))) fun r31 => some (r31.1, r31.2)) else (hk (inb y6 (gL σ 23 24)) <| Option.bind (rec 0 [y6] σ) fun r21 => Option.bind (fm_X21_two ((gC σ 23 24 y6)) y5 r21.1 r21.2) fun r25 => some (r25.2, r25.1)))) fun r14 => hk (inb y6 (gL r14.1 23 25)) <| lp_X21_reckon_222 n k0 rec m y4 r14.2 ((gC r14.1 23 25 y6)) r14.1)
/-- HomeCompilerModel.reckon(I)I -/
def bd_X21_reckon (n : Nat) (k0 : Nat) (rec : Nat → List Int32 → hc_St → Option (Int32 × hc_St)) (x1 : Int32) (σ : hc_St) : Option (Int32 × hc_St) := hk (inb x1 (gL σ 23 18)) <| if (gC σ 23 18 x1).toInt8.toInt32 = 1 then (hk (inb x1 (gL σ 23 19)) <| hk (inb ((gC σ 23 19 x1)) (gL σ 23 14)) <| some ((gC σ 23 14 ((gC σ 23 19 x1))), σ)) else if (gC σ 23 18 x1).toInt8.toInt32 = 2 then (hk (inb x1 (gL σ 23 19)) <| Option.bind (fm_X21_find n ((gC σ 23 19 x1)) 0 σ) fun r62 => hk (inb r62 (gL σ 23 41)) <| some ((gC σ 23 41 r62), σ)) else if (gC σ 23 18 x1).toInt8.toInt32 = 5 then (hk (inb x1 (gL σ 23 21)) <| Option.bind (rec 0 [((gC σ 23 21 x1))] σ) fun r68 => hk (inb x1 (gL r68.2 23 19)) <| hk (inb ((gC r68.2 23 19 x1)) (gL r68.2 23 11)) <| hk (inb ((gC r68.2 23 11 ((gC r68.2 23 19 x1)))) (gL r68.2 23 7)) <| hl (α := Int32) ((gC r68.2 23 7 ((gC r68.2 23 11 ((gC r68.2 23 19 x1))))).toInt8.toInt32) fun v75 => hl (α := Int32) ((if v75 = 45 then (-r68.1) else (if v75 = 33 then (if r68.1 = 0 then 1 else 0) else (if v75 = 126 then (r68.1 ^^^ ((-1))) else r68.1)))) fun v78 => some (v78, r68.2)) else if (gC σ 23 18 x1).toInt8.toInt32 = 8 then (hk (inb x1 (gL σ 23 21)) <| Option.bind (rec 0 [((gC σ 23 21 x1))] σ) fun r86 => Option.bind (α := hc_St × Int32) (if r86.1 = 0 then (hk (inb x1 (gL r86.2 23 23)) <| Option.bind (rec 0 [((gC r86.2 23 23 x1))] r86.2) fun r97 => some (r97.2, r97.1)) else (hk (inb x1 (gL r86.2 23 22)) <| Option.bind (rec 0 [((gC r86.2 23 22 x1))] r86.2) fun r102 => some (r102.2, r102.1))) fun r92 => some (r92.2, r92.1)) else (hk (inb x1 (gL σ 23 26)) <| hk (inb x1 (gL σ 23 21)) <| Option.bind (rec 0 [((gC σ 23 21 x1))] σ) fun r4 => hk (inb x1 (gL r4.2 23 21)) <| hk (inb ((gC r4.2 23 21 x1)) (gL r4.2 23 25)) <| Option.bind (lp_X21_reckon_222 n k0 rec n ((gC σ 23 26 x1)) r4.1 ((gC r4.2 23 25 ((gC r4.2 23 21 x1)))) r4.2) fun r54 => some (r54.2, r54.1))
set_option maxRecDepth 20000 in
set_option maxHeartbeats 4000000 in
theorem ll_X21_reckon_222 {l : Launch} {E : hc_E} {A : Nat → Prop} {am : Nat → Nat → Nat} {d : Nat} {kk : Nat} {X : hc_X} (n : Nat) (k0 : Nat) (rec : Nat → List Int32 → hc_St → Option (Int32 × hc_St)) (hD : kk + 10 ≤ d) (hem : X.2.2.2.2.2.2.2.2.2.1.exceptionTable.isEmpty = true) (IH : ∀ (w : Nat) (a : List Int32) (σ : hc_St) (r : (Int32 × hc_St)), rec w a σ = some r → ∀ am, okg_X21_reckon l E A (d - 1) am w a σ r) {oc : hc_Oc} {σe : hc_St} (hC : hc_C hc_V0 E cX21_reckon 7 RX21 (some .int) d oc σe (l, A, am, []) X) : ∀ (m : Nat) (σ : hc_St) (y4 : Int32) (y5 : Int32) (y6 : Int32) (rl : hc_St × Int32) (am1 : Nat → Nat → Nat), lp_X21_reckon_222 n k0 rec m y4 y5 y6 σ = some rl → (hc_At hc_V0 E 7 X 320 [(5, .int rl.2)] [] rl.1 am1 []) → hc_At hc_V0 E 7 X 222 [(0, .ref (E.2.1 23)), (4, .int y4), (5, .int y5), (6, .int y6)] [] σ am1 [] := by
  have hd1 : 1 ≤ d := by omega
  have hd8 : 9 ≤ d := by omega
  intro m
  induction m with
  | zero =>
    intro σ y4 y5 y6 rl am1 h
    cases h
  | succ m ih =>
    intro σ y4 y5 y6 rl am1 h JX
    rw [lp_X21_reckon_222] at h
    refine hr_iload hC dX21_reckon_222 rfl ?_
    refine hr_if_lt (x := _) hC 320 dX21_reckon_224 (by decide) (fun c11 => ?_) (fun c11 => ?_)
    · rw [if_pos c11] at h
      obtain rfl := Option.some.inj h
      exact hr_sub _ rfl (JX)
    · rw [if_neg c11] at h
      refine hr_iload hC dX21_reckon_227 rfl ?_
      refine hr_iconst (v := 1) hC dX21_reckon_229 rfl ?_
      obtain ⟨r14, e15, h⟩ := hx_bind h
      have J16 : hc_At hc_V0 E 7 X 308 [(0, .ref (E.2.1 23)), (4, .int y4), (5, .int r14.2), (6, .int y6)] [] r14.1 am1 [] := by
        refine hr_aload_n hC dX21_reckon_308 rfl ?_
        refine hr_gA hC F23_25 rfl dX21_reckon_309 q2867 ?_
        refine hr_iload hC dX21_reckon_312 rfl ?_
        obtain ⟨c53, h⟩ := hk_ok h
        refine hs_iald hC A23_25 c53 dX21_reckon_314 ?_
        refine hr_istore hC dX21_reckon_315 (by decide) ?_
        refine hr_goto hC 222 dX21_reckon_317 (by decide) ?_
        exact hr_sub _ rfl (ih _ _ _ _ _ am1 h JX)
      clear h
      have h := e15
      refine hr_icmp_ne (x := _) hC 257 dX21_reckon_230 (by decide) (fun c13 => ?_) (fun c13 => ?_)
      · rw [if_neg c13] at h
        refine hr_iload hC dX21_reckon_257 rfl ?_
        refine hr_iconst (v := 2) hC dX21_reckon_259 rfl ?_
        refine hr_icmp_ne (x := _) hC 287 dX21_reckon_260 (by decide) (fun c19 => ?_) (fun c19 => ?_)
        · rw [if_neg c19] at h
          refine hr_aload_n hC dX21_reckon_287 rfl ?_
          refine hr_aload_n hC dX21_reckon_288 rfl ?_
          refine hr_gA hC F23_24 rfl dX21_reckon_289 q2866 ?_
          refine hr_iload hC dX21_reckon_292 rfl ?_
          obtain ⟨c20, h⟩ := hk_ok h
          refine hs_iald hC A23_24 c20 dX21_reckon_294 ?_
          refine hr_iload hC dX21_reckon_295 rfl ?_
          refine hr_aload_n hC dX21_reckon_297 rfl ?_
          refine hr_iload hC dX21_reckon_298 rfl ?_
          obtain ⟨r21, e22, h⟩ := hx_bind h
          refine hs_callV0 hC 23 [_] _ dX21_reckon_300 q3478 q3480 qs256 q335 q3481 np_X21 rfl OB_23 pd_X21_reckon (Nat.le_of_ble_eq_true rfl) hd1 (IH _ _ _ _ e22 am1) rfl ?_
          obtain ⟨r25, e26, h⟩ := hx_bind h
          refine hs_callV0 hC 23 [_, _, _] _ dX21_reckon_303 q3482 q3484 qs257 q335 q3485 np_X21 rfl OB_23 pd_X21_two (Nat.le_of_ble_eq_true rfl) hd1 (okX21_two l E A (d - 1)  (by omega)  e26 am1) rfl ?_
          refine hr_istore hC dX21_reckon_306 (by decide) ?_
          obtain rfl := Option.some.inj h
          exact hr_sub _ rfl (J16)
        · rw [if_pos c19] at h
          refine hr_iload hC dX21_reckon_263 rfl ?_
          obtain ⟨r31, e32, h⟩ := hx_bind h
          have J33 : hc_At hc_V0 E 7 X 282 [(0, .ref (E.2.1 23)), (4, .int y4), (6, .int y6)] [.int r31.2] r31.1 am1 [] := by
            refine hr_istore hC dX21_reckon_282 (by decide) ?_
            refine hr_goto hC 308 dX21_reckon_284 (by decide) ?_
            obtain rfl := Option.some.inj h
            exact hr_sub _ rfl (J16)
          clear h
          have h := e32
          refine hr_if_eq (x := _) hC 281 dX21_reckon_265 (by decide) (fun c30 => ?_) (fun c30 => ?_)
          · rw [if_pos c30] at h
            refine hr_iconst (v := 0) hC dX21_reckon_281 rfl ?_
            obtain rfl := Option.some.inj h
            exact hr_sub _ rfl (J33)
          · rw [if_neg c30] at h
            refine hr_aload_n hC dX21_reckon_268 rfl ?_
            refine hr_iload hC dX21_reckon_269 rfl ?_
            obtain ⟨r35, e36, h⟩ := hx_bind h
            refine hs_callV0 hC 23 [_] _ dX21_reckon_271 q3478 q3480 qs256 q335 q3481 np_X21 rfl OB_23 pd_X21_reckon (Nat.le_of_ble_eq_true rfl) hd1 (IH _ _ _ _ e36 am1) rfl ?_
            refine hr_if_eq (x := _) hC 281 dX21_reckon_274 (by decide) (fun c40 => ?_) (fun c40 => ?_)
            · rw [if_pos c40] at h
              refine hr_iconst (v := 0) hC dX21_reckon_281 rfl ?_
              obtain rfl := Option.some.inj h
              exact hr_sub _ rfl (J33)
            · rw [if_neg c40] at h
              refine hr_iconst (v := 1) hC dX21_reckon_277 rfl ?_
              refine hr_goto hC 282 dX21_reckon_278 (by decide) ?_
              obtain rfl := Option.some.inj h
              exact hr_sub _ rfl (J33)
      · rw [if_pos c13] at h
        refine hr_iload hC dX21_reckon_233 rfl ?_
        obtain ⟨r43, e44, h⟩ := hx_bind h
        have J45 : hc_At hc_V0 E 7 X 252 [(0, .ref (E.2.1 23)), (4, .int y4), (6, .int y6)] [.int r43.2] r43.1 am1 [] := by
          refine hr_istore hC dX21_reckon_252 (by decide) ?_
          refine hr_goto hC 308 dX21_reckon_254 (by decide) ?_
          obtain rfl := Option.some.inj h
          exact hr_sub _ rfl (J16)
        clear h
        have h := e44
        refine hr_if_ne (x := _) hC 247 dX21_reckon_235 (by decide) (fun c42 => ?_) (fun c42 => ?_)
        · rw [if_neg c42] at h
          refine hr_iconst (v := 1) hC dX21_reckon_247 rfl ?_
          refine hr_goto hC 252 dX21_reckon_248 (by decide) ?_
          obtain rfl := Option.some.inj h
          exact hr_sub _ rfl (J45)
        · rw [if_pos c42] at h
          refine hr_aload_n hC dX21_reckon_238 rfl ?_
          refine hr_iload hC dX21_reckon_239 rfl ?_
          obtain ⟨r47, e48, h⟩ := hx_bind h
          refine hs_callV0 hC 23 [_] _ dX21_reckon_241 q3478 q3480 qs256 q335 q3481 np_X21 rfl OB_23 pd_X21_reckon (Nat.le_of_ble_eq_true rfl) hd1 (IH _ _ _ _ e48 am1) rfl ?_
          refine hr_if_eq (x := _) hC 251 dX21_reckon_244 (by decide) (fun c52 => ?_) (fun c52 => ?_)
          · rw [if_pos c52] at h
            refine hr_iconst (v := 0) hC dX21_reckon_251 rfl ?_
            obtain rfl := Option.some.inj h
            exact hr_sub _ rfl (J45)
          · rw [if_neg c52] at h
            refine hr_iconst (v := 1) hC dX21_reckon_247 rfl ?_
            refine hr_goto hC 252 dX21_reckon_248 (by decide) ?_
            obtain rfl := Option.some.inj h
            exact hr_sub _ rfl (J45)
set_option maxRecDepth 20000 in
set_option maxHeartbeats 4000000 in
theorem okbX21_reckon (l : Launch) (E : hc_E) (A : Nat → Prop) (d : Nat) {kk : Nat} (n : Nat) (k0 : Nat) (rec : Nat → List Int32 → hc_St → Option (Int32 × hc_St)) (hD : kk + 10 ≤ d) (IH : ∀ (w : Nat) (a : List Int32) (σ : hc_St) (r : (Int32 × hc_St)), rec w a σ = some r → ∀ am, okg_X21_reckon l E A (d - 1) am w a σ r) {x1 : Int32} {σ : hc_St} {r : (Int32 × hc_St)} (h : bd_X21_reckon n k0 rec x1 σ = some r) (am : Nat → Nat → Nat) : hc_M l hc_V0 yX21_reckon (ws_ yX21_reckon cX21_reckon 7 (some .int)) d E A [.ref (E.2.1 23), .int x1] am [] σ (.inl (some (.int r.1))) r.2 := by
  have hd1 : 1 ≤ d := by omega
  have hd8 : 9 ≤ d := by omega
  refine hc_enter2 (own := RX21) [(0, .ref (E.2.1 23)), (1, .int x1)] pl_X21 rfl hc_V0_st hc_G0_nd rfl (Nat.le_of_ble_eq_true rfl) (fun X hC hem => ?_)
  unfold bd_X21_reckon at h
  refine hr_aload_n hC dX21_reckon_0 rfl ?_
  refine hr_gA hC F23_18 rfl dX21_reckon_1 q2860 ?_
  refine hr_iload_n hC dX21_reckon_4 rfl ?_
  obtain ⟨c1, h⟩ := hk_ok h
  refine hs_bald hC A23_18 c1 dX21_reckon_5 ?_
  by_cases c106 : (gC σ 23 18 x1).toInt8.toInt32 = 1
  · rw [if_pos c106] at h
    refine hr_tableIn hC 52 dX21_reckon_6 (by rw [c106] <;> decide) (by rw [c106] <;> decide) (by rw [c106] <;> rfl) (by decide) ?_
    refine hr_aload_n hC dX21_reckon_52 rfl ?_
    refine hr_gA hC F23_14 rfl dX21_reckon_53 q2856 ?_
    refine hr_aload_n hC dX21_reckon_56 rfl ?_
    refine hr_gA hC F23_19 rfl dX21_reckon_57 q2861 ?_
    refine hr_iload_n hC dX21_reckon_60 rfl ?_
    obtain ⟨c59, h⟩ := hk_ok h
    refine hs_iald hC A23_19 c59 dX21_reckon_61 ?_
    obtain ⟨c60, h⟩ := hk_ok h
    refine hs_iald hC A23_14 c60 dX21_reckon_62 ?_
    obtain rfl := Option.some.inj h
    exact hr_iret hC dX21_reckon_63
  rw [if_neg c106] at h
  by_cases c107 : (gC σ 23 18 x1).toInt8.toInt32 = 2
  · rw [if_pos c107] at h
    refine hr_tableIn hC 64 dX21_reckon_6 (by rw [c107] <;> decide) (by rw [c107] <;> decide) (by rw [c107] <;> rfl) (by decide) ?_
    refine hr_aload_n hC dX21_reckon_64 rfl ?_
    refine hr_gA hC F23_41 rfl dX21_reckon_65 q2882 ?_
    refine hr_aload_n hC dX21_reckon_68 rfl ?_
    refine hr_aload_n hC dX21_reckon_69 rfl ?_
    refine hr_gA hC F23_19 rfl dX21_reckon_70 q2861 ?_
    refine hr_iload_n hC dX21_reckon_73 rfl ?_
    obtain ⟨c61, h⟩ := hk_ok h
    refine hs_iald hC A23_19 c61 dX21_reckon_74 ?_
    refine hr_iconst (v := 0) hC dX21_reckon_75 rfl ?_
    obtain ⟨r62, e63, h⟩ := hx_bind h
    refine hs_callV0 hC 23 [_, _] _ dX21_reckon_76 q3406 q3408 qs238 q335 q3409 np_X21 rfl OB_23 pd_X21_find (Nat.le_of_ble_eq_true rfl) hd1 (okX21_find l E A (d - 1) n (by omega)  e63 am) rfl ?_
    obtain ⟨c66, h⟩ := hk_ok h
    refine hs_iald hC A23_41 c66 dX21_reckon_79 ?_
    obtain rfl := Option.some.inj h
    exact hr_iret hC dX21_reckon_80
  rw [if_neg c107] at h
  by_cases c108 : (gC σ 23 18 x1).toInt8.toInt32 = 5
  · rw [if_pos c108] at h
    refine hr_tableIn hC 81 dX21_reckon_6 (by rw [c108] <;> decide) (by rw [c108] <;> decide) (by rw [c108] <;> rfl) (by decide) ?_
    refine hr_aload_n hC dX21_reckon_81 rfl ?_
    refine hr_aload_n hC dX21_reckon_82 rfl ?_
    refine hr_gA hC F23_21 rfl dX21_reckon_83 q2863 ?_
    refine hr_iload_n hC dX21_reckon_86 rfl ?_
    obtain ⟨c67, h⟩ := hk_ok h
    refine hs_iald hC A23_21 c67 dX21_reckon_87 ?_
    obtain ⟨r68, e69, h⟩ := hx_bind h
    refine hs_callV0 hC 23 [_] _ dX21_reckon_88 q3478 q3480 qs256 q335 q3481 np_X21 rfl OB_23 pd_X21_reckon (Nat.le_of_ble_eq_true rfl) hd1 (IH _ _ _ _ e69 am) rfl ?_
    refine hr_istore_n hC dX21_reckon_91 (by decide) ?_
    refine hr_aload_n hC dX21_reckon_92 rfl ?_
    refine hr_gA hC F23_7 rfl dX21_reckon_93 q2849 ?_
    refine hr_aload_n hC dX21_reckon_96 rfl ?_
    refine hr_gA hC F23_11 rfl dX21_reckon_97 q2853 ?_
    refine hr_aload_n hC dX21_reckon_100 rfl ?_
    refine hr_gA hC F23_19 rfl dX21_reckon_101 q2861 ?_
    refine hr_iload_n hC dX21_reckon_104 rfl ?_
    obtain ⟨c72, h⟩ := hk_ok h
    refine hs_iald hC A23_19 c72 dX21_reckon_105 ?_
    obtain ⟨c73, h⟩ := hk_ok h
    refine hs_iald hC A23_11 c73 dX21_reckon_106 ?_
    obtain ⟨c74, h⟩ := hk_ok h
    refine hs_bald hC A23_7 c74 dX21_reckon_107 ?_
    obtain ⟨v75, hv75, h⟩ := hl_ok h
    refine hr_istore_n hC dX21_reckon_108 (by decide) ?_
    rw [← hv75]
    refine hr_iload_n hC dX21_reckon_109 rfl ?_
    refine hr_bipush (v := 45) hC dX21_reckon_110 rfl ?_
    obtain ⟨v78, hv78, h⟩ := hl_ok h
    have J79 : ∀ w80 : Int32, (if v75 = 45 then (-r68.1) else (if v75 = 33 then (if r68.1 = 0 then 1 else 0) else (if v75 = 126 then (r68.1 ^^^ ((-1))) else r68.1))) = w80 → hc_At hc_V0 E 7 X 151 [] [.int w80] r68.2 am [] := by
      intro w80 hw80
      obtain rfl := hv78.trans hw80
      obtain rfl := Option.some.inj h
      exact hr_iret hC dX21_reckon_151
    refine hr_icmp_ne (x := _) hC 120 dX21_reckon_112 (by decide) (fun c81 => ?_) (fun c81 => ?_)
    · refine hr_iload_n hC dX21_reckon_120 rfl ?_
      refine hr_bipush (v := 33) hC dX21_reckon_121 rfl ?_
      refine hr_icmp_ne (x := _) hC 138 dX21_reckon_123 (by decide) (fun c82 => ?_) (fun c82 => ?_)
      · refine hr_iload_n hC dX21_reckon_138 rfl ?_
        refine hr_bipush (v := 126) hC dX21_reckon_139 rfl ?_
        refine hr_icmp_ne (x := _) hC 150 dX21_reckon_141 (by decide) (fun c83 => ?_) (fun c83 => ?_)
        · refine hr_iload_n hC dX21_reckon_150 rfl ?_
          exact hr_sub _ rfl (J79 _ (by first | (rw [if_neg c81, if_neg c82, if_neg c83]; done) | (simp only [if_neg c81, if_neg c82, if_neg c83]; done) | rfl))
        · refine hr_iload_n hC dX21_reckon_144 rfl ?_
          refine hr_iconst (v := (-1)) hC dX21_reckon_145 rfl ?_
          refine hr_ixor hC dX21_reckon_146 ?_
          refine hr_goto hC 151 dX21_reckon_147 (by decide) ?_
          exact hr_sub _ rfl (J79 _ (by first | (rw [if_neg c81, if_neg c82, if_pos c83]; done) | (simp only [if_neg c81, if_neg c82, if_pos c83]; done) | rfl))
      · refine hr_iload_n hC dX21_reckon_126 rfl ?_
        refine hr_if_ne (x := _) hC 134 dX21_reckon_127 (by decide) (fun c84 => ?_) (fun c84 => ?_)
        · refine hr_iconst (v := 0) hC dX21_reckon_134 rfl ?_
          refine hr_goto hC 151 dX21_reckon_135 (by decide) ?_
          exact hr_sub _ rfl (J79 _ (by first | (rw [if_neg c81, if_pos c82, if_neg c84]; done) | (simp only [if_neg c81, if_pos c82, if_neg c84]; done) | rfl))
        · refine hr_iconst (v := 1) hC dX21_reckon_130 rfl ?_
          refine hr_goto hC 151 dX21_reckon_131 (by decide) ?_
          exact hr_sub _ rfl (J79 _ (by first | (rw [if_neg c81, if_pos c82, if_pos c84]; done) | (simp only [if_neg c81, if_pos c82, if_pos c84]; done) | rfl))
    · refine hr_iload_n hC dX21_reckon_115 rfl ?_
      refine hr_ineg hC dX21_reckon_116 ?_
      refine hr_goto hC 151 dX21_reckon_117 (by decide) ?_
      exact hr_sub _ rfl (J79 _ (by first | (rw [if_pos c81]; done) | (simp only [if_pos c81]; done) | rfl))
  rw [if_neg c108] at h
  by_cases c109 : (gC σ 23 18 x1).toInt8.toInt32 = 8
  · rw [if_pos c109] at h
    refine hr_tableIn hC 152 dX21_reckon_6 (by rw [c109] <;> decide) (by rw [c109] <;> decide) (by rw [c109] <;> rfl) (by decide) ?_
    refine hr_aload_n hC dX21_reckon_152 rfl ?_
    refine hr_aload_n hC dX21_reckon_153 rfl ?_
    refine hr_gA hC F23_21 rfl dX21_reckon_154 q2863 ?_
    refine hr_iload_n hC dX21_reckon_157 rfl ?_
    obtain ⟨c85, h⟩ := hk_ok h
    refine hs_iald hC A23_21 c85 dX21_reckon_158 ?_
    obtain ⟨r86, e87, h⟩ := hx_bind h
    refine hs_callV0 hC 23 [_] _ dX21_reckon_159 q3478 q3480 qs256 q335 q3481 np_X21 rfl OB_23 pd_X21_reckon (Nat.le_of_ble_eq_true rfl) hd1 (IH _ _ _ _ e87 am) rfl ?_
    obtain ⟨r92, e93, h⟩ := hx_bind h
    have J94 : hc_At hc_V0 E 7 X 188 [] [.int r92.2] r92.1 am [] := by
      obtain rfl := Option.some.inj h
      exact hr_iret hC dX21_reckon_188
    clear h
    have h := e93
    refine hr_if_eq (x := _) hC 178 dX21_reckon_162 (by decide) (fun c91 => ?_) (fun c91 => ?_)
    · rw [if_pos c91] at h
      refine hr_aload_n hC dX21_reckon_178 rfl ?_
      refine hr_aload_n hC dX21_reckon_179 rfl ?_
      refine hr_gA hC F23_23 rfl dX21_reckon_180 q2865 ?_
      refine hr_iload_n hC dX21_reckon_183 rfl ?_
      obtain ⟨c96, h⟩ := hk_ok h
      refine hs_iald hC A23_23 c96 dX21_reckon_184 ?_
      obtain ⟨r97, e98, h⟩ := hx_bind h
      refine hs_callV0 hC 23 [_] _ dX21_reckon_185 q3478 q3480 qs256 q335 q3481 np_X21 rfl OB_23 pd_X21_reckon (Nat.le_of_ble_eq_true rfl) hd1 (IH _ _ _ _ e98 am) rfl ?_
      obtain rfl := Option.some.inj h
      exact hr_sub _ rfl (J94)
    · rw [if_neg c91] at h
      refine hr_aload_n hC dX21_reckon_165 rfl ?_
      refine hr_aload_n hC dX21_reckon_166 rfl ?_
      refine hr_gA hC F23_22 rfl dX21_reckon_167 q2864 ?_
      refine hr_iload_n hC dX21_reckon_170 rfl ?_
      obtain ⟨c101, h⟩ := hk_ok h
      refine hs_iald hC A23_22 c101 dX21_reckon_171 ?_
      obtain ⟨r102, e103, h⟩ := hx_bind h
      refine hs_callV0 hC 23 [_] _ dX21_reckon_172 q3478 q3480 qs256 q335 q3481 np_X21 rfl OB_23 pd_X21_reckon (Nat.le_of_ble_eq_true rfl) hd1 (IH _ _ _ _ e103 am) rfl ?_
      refine hr_goto hC 188 dX21_reckon_175 (by decide) ?_
      obtain rfl := Option.some.inj h
      exact hr_sub _ rfl (J94)
  rw [if_neg c109] at h
  refine hr_tableD hC 189 dX21_reckon_6 (ks := [1, 2, 5, 8]) (hc_l1 (hc_ne c106 rfl) (hc_l1 (hc_ne c107 rfl) (hc_l1 (hc_ne c108 rfl) (hc_l1 (hc_ne c109 rfl) hc_l0)))) (by decide) (by decide) (by decide) ?_
  refine hr_aload_n hC dX21_reckon_189 rfl ?_
  refine hr_gA hC F23_26 rfl dX21_reckon_190 q2868 ?_
  refine hr_iload_n hC dX21_reckon_193 rfl ?_
  obtain ⟨c2, h⟩ := hk_ok h
  refine hs_iald hC A23_26 c2 dX21_reckon_194 ?_
  refine hr_istore hC dX21_reckon_195 (by decide) ?_
  refine hr_aload_n hC dX21_reckon_197 rfl ?_
  refine hr_aload_n hC dX21_reckon_198 rfl ?_
  refine hr_gA hC F23_21 rfl dX21_reckon_199 q2863 ?_
  refine hr_iload_n hC dX21_reckon_202 rfl ?_
  obtain ⟨c3, h⟩ := hk_ok h
  refine hs_iald hC A23_21 c3 dX21_reckon_203 ?_
  obtain ⟨r4, e5, h⟩ := hx_bind h
  refine hs_callV0 hC 23 [_] _ dX21_reckon_204 q3478 q3480 qs256 q335 q3481 np_X21 rfl OB_23 pd_X21_reckon (Nat.le_of_ble_eq_true rfl) hd1 (IH _ _ _ _ e5 am) rfl ?_
  refine hr_istore hC dX21_reckon_207 (by decide) ?_
  refine hr_aload_n hC dX21_reckon_209 rfl ?_
  refine hr_gA hC F23_25 rfl dX21_reckon_210 q2867 ?_
  refine hr_aload_n hC dX21_reckon_213 rfl ?_
  refine hr_gA hC F23_21 rfl dX21_reckon_214 q2863 ?_
  refine hr_iload_n hC dX21_reckon_217 rfl ?_
  obtain ⟨c8, h⟩ := hk_ok h
  refine hs_iald hC A23_21 c8 dX21_reckon_218 ?_
  obtain ⟨c9, h⟩ := hk_ok h
  refine hs_iald hC A23_25 c9 dX21_reckon_219 ?_
  refine hr_istore hC dX21_reckon_220 (by decide) ?_
  obtain ⟨r54, e55, h⟩ := hx_bind h
  refine hr_sub _ rfl (ll_X21_reckon_222 n k0 rec hD hem IH hC n _ _ _ _ _ am e55 ?_)
  refine hr_iload hC dX21_reckon_320 rfl ?_
  obtain rfl := Option.some.inj h
  exact hr_iret hC dX21_reckon_322
def rc_X21_reckon (n : Nat) (k0 : Nat) : Nat → Nat → List Int32 → hc_St → Option (Int32 × hc_St)
  | 0, _, _, _ => none
  | k + 1, w, a, σ => match w with
    | 0 => bd_X21_reckon n k0 (rc_X21_reckon n k0 k) (a.getD 0 0) σ
    | _ => none
theorem okr_X21_reckon (l : Launch) (E : hc_E) (A : Nat → Prop) (n : Nat) (k0 : Nat) : ∀ (k d : Nat), k + 10 ≤ d → ∀ (w : Nat) (a : List Int32) (σ : hc_St) (r : (Int32 × hc_St)), rc_X21_reckon n k0 k w a σ = some r → ∀ am, okg_X21_reckon l E A d am w a σ r
  | 0, d, _, w, a, σ, r, h, am => by cases h
  | k + 1, d, hd, w, a, σ, r, h, am => by
    have IH := okr_X21_reckon l E A n k0 k (d - 1) (by omega)
    match w, h with
    | 0, h => exact okbX21_reckon l E A d (kk := k) n k0 (rc_X21_reckon n k0 k) (by omega) IH h am
    | w + 1, h => trivial
def fm_X21_reckon (n : Nat) (k0 : Nat) (x1 : Int32) (σ : hc_St) : Option (Int32 × hc_St) := rc_X21_reckon n k0 k0 0 [x1] σ
theorem okX21_reckon (l : Launch) (E : hc_E) (A : Nat → Prop) (d : Nat) (n : Nat) (k0 : Nat) (hD : k0 + 10 ≤ d)  {x1 : Int32} {σ : hc_St} {r : (Int32 × hc_St)} (h : fm_X21_reckon n k0 x1 σ = some r) (am : Nat → Nat → Nat) : hc_M l hc_V0 yX21_reckon (ws_ yX21_reckon cX21_reckon 7 (some .int)) d E A [.ref (E.2.1 23), .int x1] am [] σ (.inl (some (.int r.1))) r.2 := okr_X21_reckon l E A n k0 k0 d hD 0 _ _ _ h am
/-- HomeCompilerModel.checkIndex(I)V -/
def fm_X21_checkIndex (n : Nat) (x1 : Int32) (σ : hc_St) : Option hc_St := hk (inb x1 (gL σ 23 19)) <| Option.bind (fm_X21_find n ((gC σ 23 19 x1)) 0 σ) fun r2 => Option.bind (α := hc_St) (if 0 ≤ r2 then (if r2 < 0 then (Option.bind (fm_X21_bad 3 ((gC σ 23 19 x1)) σ) fun r14 => some (r14)) else (hk (inb r2 (gL σ 23 40)) <| if (gC σ 23 40 r2) = 2 then (hk (inb r2 (gL σ 23 58)) <| hk (inb x1 (gL σ 23 22)) <| hl (pC σ 23 22 x1 ((gC σ 23 58 r2))) fun σ23 => some (σ23)) else (hk (inb r2 (gL σ 23 40)) <| if (gC σ 23 40 r2) = 3 then (hk (inb r2 (gL σ 23 58)) <| hk (inb x1 (gL σ 23 22)) <| hl (pC σ 23 22 x1 ((gC σ 23 58 r2))) fun σ29 => some (σ29)) else (Option.bind (fm_X21_bad 3 ((gC σ 23 19 x1)) σ) fun r30 => some (r30))))) else (Option.bind (fm_X21_isFunction n ((gC σ 23 19 x1)) σ) fun r34 => if r34 = 0 then (Option.bind (fm_X21_bad 2 ((gC σ 23 19 x1)) σ) fun r62 => some (r62)) else (if r2 < 0 then (Option.bind (fm_X21_bad 3 ((gC σ 23 19 x1)) σ) fun r42 => some (r42)) else (hk (inb r2 (gL σ 23 40)) <| if (gC σ 23 40 r2) = 2 then (hk (inb r2 (gL σ 23 58)) <| hk (inb x1 (gL σ 23 22)) <| hl (pC σ 23 22 x1 ((gC σ 23 58 r2))) fun σ51 => some (σ51)) else (hk (inb r2 (gL σ 23 40)) <| if (gC σ 23 40 r2) = 3 then (hk (inb r2 (gL σ 23 58)) <| hk (inb x1 (gL σ 23 22)) <| hl (pC σ 23 22 x1 ((gC σ 23 58 r2))) fun σ57 => some (σ57)) else (Option.bind (fm_X21_bad 3 ((gC σ 23 19 x1)) σ) fun r58 => some (r58))))))) fun r8 => some r8
set_option maxRecDepth 20000 in
set_option maxHeartbeats 4000000 in
theorem okX21_checkIndex (l : Launch) (E : hc_E) (A : Nat → Prop) (d : Nat) (n : Nat) (hD : 13 ≤ d) {x1 : Int32} {σ : hc_St} {r : hc_St} (h : fm_X21_checkIndex n x1 σ = some r) (am : Nat → Nat → Nat) : hc_M l hc_V0 yX21_checkIndex (ws_ yX21_checkIndex cX21_checkIndex 4 none) d E A [.ref (E.2.1 23), .int x1] am [] σ (.inl none) r := by
  have hd1 : 1 ≤ d := by omega
  have hd8 : 9 ≤ d := by omega
  have hd12 : 12 ≤ d := by omega
  refine hc_enter2 (own := RX21) [(0, .ref (E.2.1 23)), (1, .int x1)] pl_X21 rfl hc_V0_st hc_G0_nd rfl (Nat.le_of_ble_eq_true rfl) (fun X hC hem => ?_)
  unfold fm_X21_checkIndex at h
  refine hr_aload_n hC dX21_checkIndex_0 rfl ?_
  refine hr_gA hC F23_19 rfl dX21_checkIndex_1 q2861 ?_
  refine hr_iload_n hC dX21_checkIndex_4 rfl ?_
  obtain ⟨c1, h⟩ := hk_ok h
  refine hs_iald hC A23_19 c1 dX21_checkIndex_5 ?_
  refine hr_istore_n hC dX21_checkIndex_6 (by decide) ?_
  refine hr_aload_n hC dX21_checkIndex_7 rfl ?_
  refine hr_iload_n hC dX21_checkIndex_8 rfl ?_
  refine hr_iconst (v := 0) hC dX21_checkIndex_9 rfl ?_
  obtain ⟨r2, e3, h⟩ := hx_bind h
  refine hs_callV0 hC 23 [_, _] _ dX21_checkIndex_10 q3406 q3408 qs238 q335 q3409 np_X21 rfl OB_23 pd_X21_find (Nat.le_of_ble_eq_true rfl) hd1 (okX21_find l E A (d - 1) n (by omega)  e3 am) rfl ?_
  refine hr_istore_n hC dX21_checkIndex_13 (by decide) ?_
  refine hr_iload_n hC dX21_checkIndex_14 rfl ?_
  obtain ⟨r8, e9, h⟩ := hx_bind h
  have J10 : hc_At hc_V0 E 4 X 80 [] [] r8 am [] := by
    obtain rfl := Option.some.inj h
    exact hr_vret hC dX21_checkIndex_80
  clear h
  have h := e9
  refine hr_if_ge (x := _) hC 35 dX21_checkIndex_15 (by decide) (fun c7 => ?_) (fun c7 => ?_)
  · rw [if_pos c7] at h
    refine hr_iload_n hC dX21_checkIndex_35 rfl ?_
    refine hr_if_lt (x := _) hC 59 dX21_checkIndex_36 (by decide) (fun c13 => ?_) (fun c13 => ?_)
    · rw [if_pos c13] at h
      refine hr_aload_n hC dX21_checkIndex_59 rfl ?_
      refine hr_iconst (v := 3) hC dX21_checkIndex_60 rfl ?_
      refine hr_iload_n hC dX21_checkIndex_61 rfl ?_
      obtain ⟨r14, e15, h⟩ := hx_bind h
      refine hs_callV0 hC 23 [_, _] _ dX21_checkIndex_62 q3398 q3400 qs236 q335 q3401 np_X21 rfl OB_23 pd_X21_bad (Nat.le_of_ble_eq_true rfl) hd1 (okX21_bad l E A (d - 1)  (by omega)  e15 am) rfl ?_
      refine hr_goto hC 80 dX21_checkIndex_65 (by decide) ?_
      obtain rfl := Option.some.inj h
      exact hr_sub _ rfl (J10)
    · rw [if_neg c13] at h
      refine hr_aload_n hC dX21_checkIndex_39 rfl ?_
      refine hr_gA hC F23_40 rfl dX21_checkIndex_40 q2881 ?_
      refine hr_iload_n hC dX21_checkIndex_43 rfl ?_
      obtain ⟨c18, h⟩ := hk_ok h
      refine hs_iald hC A23_40 c18 dX21_checkIndex_44 ?_
      refine hr_iconst (v := 2) hC dX21_checkIndex_45 rfl ?_
      refine hr_icmp_eq (x := _) hC 68 dX21_checkIndex_46 (by decide) (fun c20 => ?_) (fun c20 => ?_)
      · rw [if_pos c20] at h
        refine hr_aload_n hC dX21_checkIndex_68 rfl ?_
        refine hr_gA hC F23_22 rfl dX21_checkIndex_69 q2864 ?_
        refine hr_iload_n hC dX21_checkIndex_72 rfl ?_
        refine hr_aload_n hC dX21_checkIndex_73 rfl ?_
        refine hr_gA hC F23_58 rfl dX21_checkIndex_74 q2899 ?_
        refine hr_iload_n hC dX21_checkIndex_77 rfl ?_
        obtain ⟨c21, h⟩ := hk_ok h
        refine hs_iald hC A23_58 c21 dX21_checkIndex_78 ?_
        obtain ⟨c22, h⟩ := hk_ok h
        obtain ⟨σ23, hσ23, h⟩ := hl_ok h
        refine hs_iast hC A23_22 c22 dX21_checkIndex_79 ?_
        rw [← hσ23]
        obtain rfl := Option.some.inj h
        exact hr_sub _ rfl (J10)
      · rw [if_neg c20] at h
        refine hr_aload_n hC dX21_checkIndex_49 rfl ?_
        refine hr_gA hC F23_40 rfl dX21_checkIndex_50 q2881 ?_
        refine hr_iload_n hC dX21_checkIndex_53 rfl ?_
        obtain ⟨c24, h⟩ := hk_ok h
        refine hs_iald hC A23_40 c24 dX21_checkIndex_54 ?_
        refine hr_iconst (v := 3) hC dX21_checkIndex_55 rfl ?_
        refine hr_icmp_eq (x := _) hC 68 dX21_checkIndex_56 (by decide) (fun c26 => ?_) (fun c26 => ?_)
        · rw [if_pos c26] at h
          refine hr_aload_n hC dX21_checkIndex_68 rfl ?_
          refine hr_gA hC F23_22 rfl dX21_checkIndex_69 q2864 ?_
          refine hr_iload_n hC dX21_checkIndex_72 rfl ?_
          refine hr_aload_n hC dX21_checkIndex_73 rfl ?_
          refine hr_gA hC F23_58 rfl dX21_checkIndex_74 q2899 ?_
          refine hr_iload_n hC dX21_checkIndex_77 rfl ?_
          obtain ⟨c27, h⟩ := hk_ok h
          refine hs_iald hC A23_58 c27 dX21_checkIndex_78 ?_
          obtain ⟨c28, h⟩ := hk_ok h
          obtain ⟨σ29, hσ29, h⟩ := hl_ok h
          refine hs_iast hC A23_22 c28 dX21_checkIndex_79 ?_
          rw [← hσ29]
          obtain rfl := Option.some.inj h
          exact hr_sub _ rfl (J10)
        · rw [if_neg c26] at h
          refine hr_aload_n hC dX21_checkIndex_59 rfl ?_
          refine hr_iconst (v := 3) hC dX21_checkIndex_60 rfl ?_
          refine hr_iload_n hC dX21_checkIndex_61 rfl ?_
          obtain ⟨r30, e31, h⟩ := hx_bind h
          refine hs_callV0 hC 23 [_, _] _ dX21_checkIndex_62 q3398 q3400 qs236 q335 q3401 np_X21 rfl OB_23 pd_X21_bad (Nat.le_of_ble_eq_true rfl) hd1 (okX21_bad l E A (d - 1)  (by omega)  e31 am) rfl ?_
          refine hr_goto hC 80 dX21_checkIndex_65 (by decide) ?_
          obtain rfl := Option.some.inj h
          exact hr_sub _ rfl (J10)
  · rw [if_neg c7] at h
    refine hr_aload_n hC dX21_checkIndex_18 rfl ?_
    refine hr_iload_n hC dX21_checkIndex_19 rfl ?_
    obtain ⟨r34, e35, h⟩ := hx_bind h
    refine hs_callV0 hC 23 [_] _ dX21_checkIndex_20 q3410 q3412 qs239 q335 q3413 np_X21 rfl OB_23 pd_X21_isFunction (Nat.le_of_ble_eq_true rfl) hd1 (okX21_isFunction l E A (d - 1) n (by omega)  e35 am) rfl ?_
    refine hr_if_ne (x := _) hC 35 dX21_checkIndex_23 (by decide) (fun c39 => ?_) (fun c39 => ?_)
    · rw [if_neg c39] at h
      refine hr_iload_n hC dX21_checkIndex_35 rfl ?_
      refine hr_if_lt (x := _) hC 59 dX21_checkIndex_36 (by decide) (fun c41 => ?_) (fun c41 => ?_)
      · rw [if_pos c41] at h
        refine hr_aload_n hC dX21_checkIndex_59 rfl ?_
        refine hr_iconst (v := 3) hC dX21_checkIndex_60 rfl ?_
        refine hr_iload_n hC dX21_checkIndex_61 rfl ?_
        obtain ⟨r42, e43, h⟩ := hx_bind h
        refine hs_callV0 hC 23 [_, _] _ dX21_checkIndex_62 q3398 q3400 qs236 q335 q3401 np_X21 rfl OB_23 pd_X21_bad (Nat.le_of_ble_eq_true rfl) hd1 (okX21_bad l E A (d - 1)  (by omega)  e43 am) rfl ?_
        refine hr_goto hC 80 dX21_checkIndex_65 (by decide) ?_
        obtain rfl := Option.some.inj h
        exact hr_sub _ rfl (J10)
      · rw [if_neg c41] at h
        refine hr_aload_n hC dX21_checkIndex_39 rfl ?_
        refine hr_gA hC F23_40 rfl dX21_checkIndex_40 q2881 ?_
        refine hr_iload_n hC dX21_checkIndex_43 rfl ?_
        obtain ⟨c46, h⟩ := hk_ok h
        refine hs_iald hC A23_40 c46 dX21_checkIndex_44 ?_
        refine hr_iconst (v := 2) hC dX21_checkIndex_45 rfl ?_
        refine hr_icmp_eq (x := _) hC 68 dX21_checkIndex_46 (by decide) (fun c48 => ?_) (fun c48 => ?_)
        · rw [if_pos c48] at h
          refine hr_aload_n hC dX21_checkIndex_68 rfl ?_
          refine hr_gA hC F23_22 rfl dX21_checkIndex_69 q2864 ?_
          refine hr_iload_n hC dX21_checkIndex_72 rfl ?_
          refine hr_aload_n hC dX21_checkIndex_73 rfl ?_
          refine hr_gA hC F23_58 rfl dX21_checkIndex_74 q2899 ?_
          refine hr_iload_n hC dX21_checkIndex_77 rfl ?_
          obtain ⟨c49, h⟩ := hk_ok h
          refine hs_iald hC A23_58 c49 dX21_checkIndex_78 ?_
          obtain ⟨c50, h⟩ := hk_ok h
          obtain ⟨σ51, hσ51, h⟩ := hl_ok h
          refine hs_iast hC A23_22 c50 dX21_checkIndex_79 ?_
          rw [← hσ51]
          obtain rfl := Option.some.inj h
          exact hr_sub _ rfl (J10)
        · rw [if_neg c48] at h
          refine hr_aload_n hC dX21_checkIndex_49 rfl ?_
          refine hr_gA hC F23_40 rfl dX21_checkIndex_50 q2881 ?_
          refine hr_iload_n hC dX21_checkIndex_53 rfl ?_
          obtain ⟨c52, h⟩ := hk_ok h
          refine hs_iald hC A23_40 c52 dX21_checkIndex_54 ?_
          refine hr_iconst (v := 3) hC dX21_checkIndex_55 rfl ?_
          refine hr_icmp_eq (x := _) hC 68 dX21_checkIndex_56 (by decide) (fun c54 => ?_) (fun c54 => ?_)
          · rw [if_pos c54] at h
            refine hr_aload_n hC dX21_checkIndex_68 rfl ?_
            refine hr_gA hC F23_22 rfl dX21_checkIndex_69 q2864 ?_
            refine hr_iload_n hC dX21_checkIndex_72 rfl ?_
            refine hr_aload_n hC dX21_checkIndex_73 rfl ?_
            refine hr_gA hC F23_58 rfl dX21_checkIndex_74 q2899 ?_
            refine hr_iload_n hC dX21_checkIndex_77 rfl ?_
            obtain ⟨c55, h⟩ := hk_ok h
            refine hs_iald hC A23_58 c55 dX21_checkIndex_78 ?_
            obtain ⟨c56, h⟩ := hk_ok h
            obtain ⟨σ57, hσ57, h⟩ := hl_ok h
            refine hs_iast hC A23_22 c56 dX21_checkIndex_79 ?_
            rw [← hσ57]
            obtain rfl := Option.some.inj h
            exact hr_sub _ rfl (J10)
          · rw [if_neg c54] at h
            refine hr_aload_n hC dX21_checkIndex_59 rfl ?_
            refine hr_iconst (v := 3) hC dX21_checkIndex_60 rfl ?_
            refine hr_iload_n hC dX21_checkIndex_61 rfl ?_
            obtain ⟨r58, e59, h⟩ := hx_bind h
            refine hs_callV0 hC 23 [_, _] _ dX21_checkIndex_62 q3398 q3400 qs236 q335 q3401 np_X21 rfl OB_23 pd_X21_bad (Nat.le_of_ble_eq_true rfl) hd1 (okX21_bad l E A (d - 1)  (by omega)  e59 am) rfl ?_
            refine hr_goto hC 80 dX21_checkIndex_65 (by decide) ?_
            obtain rfl := Option.some.inj h
            exact hr_sub _ rfl (J10)
    · rw [if_pos c39] at h
      refine hr_aload_n hC dX21_checkIndex_26 rfl ?_
      refine hr_iconst (v := 2) hC dX21_checkIndex_27 rfl ?_
      refine hr_iload_n hC dX21_checkIndex_28 rfl ?_
      obtain ⟨r62, e63, h⟩ := hx_bind h
      refine hs_callV0 hC 23 [_, _] _ dX21_checkIndex_29 q3398 q3400 qs236 q335 q3401 np_X21 rfl OB_23 pd_X21_bad (Nat.le_of_ble_eq_true rfl) hd1 (okX21_bad l E A (d - 1)  (by omega)  e63 am) rfl ?_
      refine hr_goto hC 80 dX21_checkIndex_32 (by decide) ?_
      obtain rfl := Option.some.inj h
      exact hr_sub _ rfl (J10)
/-- HomeCompilerModel.checkPlace(II)V -/
def fm_X21_checkPlace (n : Nat) (x1 : Int32) (x2 : Int32) (σ : hc_St) : Option hc_St := Option.bind (α := hc_St) (if x2 = 2 then (Option.bind (fm_X21_first x1 σ) fun r7 => Option.bind (fm_X21_bad 3 r7 σ) fun r11 => some (r11)) else (if x2 = 3 then (Option.bind (fm_X21_first x1 σ) fun r17 => Option.bind (fm_X21_bad 3 r17 σ) fun r21 => some (r21)) else (some (σ)))) fun r3 => hk (inb x1 (gL r3 23 18)) <| Option.bind (α := Int32) (if (gC r3 23 18 x1).toInt8.toInt32 = 4 then (some (1)) else (hk (inb x1 (gL r3 23 18)) <| if (gC r3 23 18 x1).toInt8.toInt32 = 2 then (if x2 = 0 then (some (1)) else (some (0))) else (some (0)))) fun r28 => hk (inb x1 (gL r3 23 18)) <| Option.bind (α := Int32) (if (gC r3 23 18 x1).toInt8.toInt32 = 2 then (if x2 = 1 then (hk (inb x1 (gL r3 23 19)) <| Option.bind (fm_X21_find n ((gC r3 23 19 x1)) 0 r3) fun r47 => hk (inb r47 (gL r3 23 40)) <| hl (α := Int32) ((if (gC r3 23 40 r47) = 1 then 1 else 0)) fun v54 => some (v54)) else (some (r28))) else (some (r28))) fun r40 => Option.bind (α := hc_St) (if r40 = 0 then (Option.bind (fm_X21_first x1 r3) fun r64 => Option.bind (fm_X21_bad 6 r64 r3) fun r68 => some (r68)) else (some (r3))) fun r60 => some r60
set_option maxRecDepth 20000 in
set_option maxHeartbeats 4000000 in
theorem okX21_checkPlace (l : Launch) (E : hc_E) (A : Nat → Prop) (d : Nat) (n : Nat) (hD : 3 ≤ d) {x1 : Int32} {x2 : Int32} {σ : hc_St} {r : hc_St} (h : fm_X21_checkPlace n x1 x2 σ = some r) (am : Nat → Nat → Nat) : hc_M l hc_V0 yX21_checkPlace (ws_ yX21_checkPlace cX21_checkPlace 4 none) d E A [.ref (E.2.1 23), .int x1, .int x2] am [] σ (.inl none) r := by
  have hd1 : 1 ≤ d := by omega
  refine hc_enter2 (own := RX21) [(0, .ref (E.2.1 23)), (1, .int x1), (2, .int x2)] pl_X21 rfl hc_V0_st hc_G0_nd rfl (Nat.le_of_ble_eq_true rfl) (fun X hC hem => ?_)
  unfold fm_X21_checkPlace at h
  refine hr_iload_n hC dX21_checkPlace_0 rfl ?_
  refine hr_iconst (v := 2) hC dX21_checkPlace_1 rfl ?_
  obtain ⟨r3, e4, h⟩ := hx_bind h
  have J5 : hc_At hc_V0 E 4 X 20 [(0, .ref (E.2.1 23)), (1, .int x1), (2, .int x2)] [] r3 am [] := by
    refine hr_aload_n hC dX21_checkPlace_20 rfl ?_
    refine hr_gA hC F23_18 rfl dX21_checkPlace_21 q2860 ?_
    refine hr_iload_n hC dX21_checkPlace_24 rfl ?_
    obtain ⟨c25, h⟩ := hk_ok h
    refine hs_bald hC A23_18 c25 dX21_checkPlace_25 ?_
    refine hr_iconst (v := 4) hC dX21_checkPlace_26 rfl ?_
    obtain ⟨r28, e29, h⟩ := hx_bind h
    have J30 : hc_At hc_V0 E 4 X 49 [(0, .ref (E.2.1 23)), (1, .int x1), (2, .int x2)] [.int r28] r3 am [] := by
      refine hr_istore_n hC dX21_checkPlace_49 (by decide) ?_
      refine hr_aload_n hC dX21_checkPlace_50 rfl ?_
      refine hr_gA hC F23_18 rfl dX21_checkPlace_51 q2860 ?_
      refine hr_iload_n hC dX21_checkPlace_54 rfl ?_
      obtain ⟨c37, h⟩ := hk_ok h
      refine hs_bald hC A23_18 c37 dX21_checkPlace_55 ?_
      refine hr_iconst (v := 2) hC dX21_checkPlace_56 rfl ?_
      obtain ⟨r40, e41, h⟩ := hx_bind h
      have J42 : hc_At hc_V0 E 4 X 91 [(0, .ref (E.2.1 23)), (1, .int x1), (3, .int r40)] [] r3 am [] := by
        refine hr_iload_n hC dX21_checkPlace_91 rfl ?_
        obtain ⟨r60, e61, h⟩ := hx_bind h
        have J62 : hc_At hc_V0 E 4 X 106 [] [] r60 am [] := by
          obtain rfl := Option.some.inj h
          exact hr_vret hC dX21_checkPlace_106
        clear h
        have h := e61
        refine hr_if_ne (x := _) hC 106 dX21_checkPlace_92 (by decide) (fun c59 => ?_) (fun c59 => ?_)
        · rw [if_neg c59] at h
          obtain rfl := Option.some.inj h
          exact hr_sub _ rfl (J62)
        · rw [if_pos c59] at h
          refine hr_aload_n hC dX21_checkPlace_95 rfl ?_
          refine hr_bipush (v := 6) hC dX21_checkPlace_96 rfl ?_
          refine hr_aload_n hC dX21_checkPlace_98 rfl ?_
          refine hr_iload_n hC dX21_checkPlace_99 rfl ?_
          obtain ⟨r64, e65, h⟩ := hx_bind h
          refine hs_callV0 hC 23 [_] _ dX21_checkPlace_100 q3474 q3476 qs255 q335 q3477 np_X21 rfl OB_23 pd_X21_first (Nat.le_of_ble_eq_true rfl) hd1 (okX21_first l E A (d - 1)  (by omega)  e65 am) rfl ?_
          obtain ⟨r68, e69, h⟩ := hx_bind h
          refine hs_callV0 hC 23 [_, _] _ dX21_checkPlace_103 q3398 q3400 qs236 q335 q3401 np_X21 rfl OB_23 pd_X21_bad (Nat.le_of_ble_eq_true rfl) hd1 (okX21_bad l E A (d - 1)  (by omega)  e69 am) rfl ?_
          obtain rfl := Option.some.inj h
          exact hr_sub _ rfl (J62)
      clear h
      have h := e41
      refine hr_icmp_ne (x := _) hC 91 dX21_checkPlace_57 (by decide) (fun c39 => ?_) (fun c39 => ?_)
      · rw [if_neg c39] at h
        obtain rfl := Option.some.inj h
        exact hr_sub _ rfl (J42)
      · rw [if_pos c39] at h
        refine hr_iload_n hC dX21_checkPlace_60 rfl ?_
        refine hr_iconst (v := 1) hC dX21_checkPlace_61 rfl ?_
        refine hr_icmp_ne (x := _) hC 91 dX21_checkPlace_62 (by decide) (fun c45 => ?_) (fun c45 => ?_)
        · rw [if_neg c45] at h
          obtain rfl := Option.some.inj h
          exact hr_sub _ rfl (J42)
        · rw [if_pos c45] at h
          refine hr_aload_n hC dX21_checkPlace_65 rfl ?_
          refine hr_gA hC F23_40 rfl dX21_checkPlace_66 q2881 ?_
          refine hr_aload_n hC dX21_checkPlace_69 rfl ?_
          refine hr_aload_n hC dX21_checkPlace_70 rfl ?_
          refine hr_gA hC F23_19 rfl dX21_checkPlace_71 q2861 ?_
          refine hr_iload_n hC dX21_checkPlace_74 rfl ?_
          obtain ⟨c46, h⟩ := hk_ok h
          refine hs_iald hC A23_19 c46 dX21_checkPlace_75 ?_
          refine hr_iconst (v := 0) hC dX21_checkPlace_76 rfl ?_
          obtain ⟨r47, e48, h⟩ := hx_bind h
          refine hs_callV0 hC 23 [_, _] _ dX21_checkPlace_77 q3406 q3408 qs238 q335 q3409 np_X21 rfl OB_23 pd_X21_find (Nat.le_of_ble_eq_true rfl) hd1 (okX21_find l E A (d - 1) n (by omega)  e48 am) rfl ?_
          obtain ⟨c51, h⟩ := hk_ok h
          refine hs_iald hC A23_40 c51 dX21_checkPlace_80 ?_
          refine hr_iconst (v := 1) hC dX21_checkPlace_81 rfl ?_
          obtain ⟨v54, hv54, h⟩ := hl_ok h
          have J55 : ∀ w56 : Int32, (if (gC r3 23 40 r47) = 1 then 1 else 0) = w56 → hc_At hc_V0 E 4 X 90 [(0, .ref (E.2.1 23)), (1, .int x1)] [.int w56] r3 am [] := by
            intro w56 hw56
            obtain rfl := hv54.trans hw56
            refine hr_istore_n hC dX21_checkPlace_90 (by decide) ?_
            obtain rfl := Option.some.inj h
            exact hr_sub _ rfl (J42)
          refine hr_icmp_ne (x := _) hC 89 dX21_checkPlace_82 (by decide) (fun c57 => ?_) (fun c57 => ?_)
          · refine hr_iconst (v := 0) hC dX21_checkPlace_89 rfl ?_
            exact hr_sub _ rfl (J55 _ (by first | (rw [if_neg c57]; done) | (simp only [if_neg c57]; done) | rfl))
          · refine hr_iconst (v := 1) hC dX21_checkPlace_85 rfl ?_
            refine hr_goto hC 90 dX21_checkPlace_86 (by decide) ?_
            exact hr_sub _ rfl (J55 _ (by first | (rw [if_pos c57]; done) | (simp only [if_pos c57]; done) | rfl))
    clear h
    have h := e29
    refine hr_icmp_eq (x := _) hC 44 dX21_checkPlace_27 (by decide) (fun c27 => ?_) (fun c27 => ?_)
    · rw [if_pos c27] at h
      refine hr_iconst (v := 1) hC dX21_checkPlace_44 rfl ?_
      refine hr_goto hC 49 dX21_checkPlace_45 (by decide) ?_
      obtain rfl := Option.some.inj h
      exact hr_sub _ rfl (J30)
    · rw [if_neg c27] at h
      refine hr_aload_n hC dX21_checkPlace_30 rfl ?_
      refine hr_gA hC F23_18 rfl dX21_checkPlace_31 q2860 ?_
      refine hr_iload_n hC dX21_checkPlace_34 rfl ?_
      obtain ⟨c32, h⟩ := hk_ok h
      refine hs_bald hC A23_18 c32 dX21_checkPlace_35 ?_
      refine hr_iconst (v := 2) hC dX21_checkPlace_36 rfl ?_
      refine hr_icmp_ne (x := _) hC 48 dX21_checkPlace_37 (by decide) (fun c34 => ?_) (fun c34 => ?_)
      · rw [if_neg c34] at h
        refine hr_iconst (v := 0) hC dX21_checkPlace_48 rfl ?_
        obtain rfl := Option.some.inj h
        exact hr_sub _ rfl (J30)
      · rw [if_pos c34] at h
        refine hr_iload_n hC dX21_checkPlace_40 rfl ?_
        refine hr_if_ne (x := _) hC 48 dX21_checkPlace_41 (by decide) (fun c36 => ?_) (fun c36 => ?_)
        · rw [if_neg c36] at h
          refine hr_iconst (v := 0) hC dX21_checkPlace_48 rfl ?_
          obtain rfl := Option.some.inj h
          exact hr_sub _ rfl (J30)
        · rw [if_pos c36] at h
          refine hr_iconst (v := 1) hC dX21_checkPlace_44 rfl ?_
          refine hr_goto hC 49 dX21_checkPlace_45 (by decide) ?_
          obtain rfl := Option.some.inj h
          exact hr_sub _ rfl (J30)
  clear h
  have h := e4
  refine hr_icmp_eq (x := _) hC 10 dX21_checkPlace_2 (by decide) (fun c2 => ?_) (fun c2 => ?_)
  · rw [if_pos c2] at h
    refine hr_aload_n hC dX21_checkPlace_10 rfl ?_
    refine hr_iconst (v := 3) hC dX21_checkPlace_11 rfl ?_
    refine hr_aload_n hC dX21_checkPlace_12 rfl ?_
    refine hr_iload_n hC dX21_checkPlace_13 rfl ?_
    obtain ⟨r7, e8, h⟩ := hx_bind h
    refine hs_callV0 hC 23 [_] _ dX21_checkPlace_14 q3474 q3476 qs255 q335 q3477 np_X21 rfl OB_23 pd_X21_first (Nat.le_of_ble_eq_true rfl) hd1 (okX21_first l E A (d - 1)  (by omega)  e8 am) rfl ?_
    obtain ⟨r11, e12, h⟩ := hx_bind h
    refine hs_callV0 hC 23 [_, _] _ dX21_checkPlace_17 q3398 q3400 qs236 q335 q3401 np_X21 rfl OB_23 pd_X21_bad (Nat.le_of_ble_eq_true rfl) hd1 (okX21_bad l E A (d - 1)  (by omega)  e12 am) rfl ?_
    obtain rfl := Option.some.inj h
    exact hr_sub _ rfl (J5)
  · rw [if_neg c2] at h
    refine hr_iload_n hC dX21_checkPlace_5 rfl ?_
    refine hr_iconst (v := 3) hC dX21_checkPlace_6 rfl ?_
    refine hr_icmp_ne (x := _) hC 20 dX21_checkPlace_7 (by decide) (fun c16 => ?_) (fun c16 => ?_)
    · rw [if_neg c16] at h
      obtain rfl := Option.some.inj h
      exact hr_sub _ rfl (J5)
    · rw [if_pos c16] at h
      refine hr_aload_n hC dX21_checkPlace_10 rfl ?_
      refine hr_iconst (v := 3) hC dX21_checkPlace_11 rfl ?_
      refine hr_aload_n hC dX21_checkPlace_12 rfl ?_
      refine hr_iload_n hC dX21_checkPlace_13 rfl ?_
      obtain ⟨r17, e18, h⟩ := hx_bind h
      refine hs_callV0 hC 23 [_] _ dX21_checkPlace_14 q3474 q3476 qs255 q335 q3477 np_X21 rfl OB_23 pd_X21_first (Nat.le_of_ble_eq_true rfl) hd1 (okX21_first l E A (d - 1)  (by omega)  e18 am) rfl ?_
      obtain ⟨r21, e22, h⟩ := hx_bind h
      refine hs_callV0 hC 23 [_, _] _ dX21_checkPlace_17 q3398 q3400 qs236 q335 q3401 np_X21 rfl OB_23 pd_X21_bad (Nat.le_of_ble_eq_true rfl) hd1 (okX21_bad l E A (d - 1)  (by omega)  e22 am) rfl ?_
      obtain rfl := Option.some.inj h
      exact hr_sub _ rfl (J5)
