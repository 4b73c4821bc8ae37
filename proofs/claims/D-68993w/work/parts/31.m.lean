set_option maxRecDepth 20000
/-- HomeCompiler$Walker.find(IIIIZ)I -/
def fm_X20_find (n : Nat) (x1 : Int32) (x2 : Int32) (x3 : Int32) (x4 : Int32) (x5 : Int32) (σ : hc_St) : Option (Int32 × hc_St) := if x3 < 0 then (Option.bind (α := hc_St) (if x3 = (gI σ 21 3) then (Option.bind (fm_X17_changes  σ) fun r19 => if (gI σ 21 4) = r19 then (some (σ)) else (Option.bind (fm_X20_forget n σ) fun r25 => hl (pI r25 21 3 x3) fun σ29 => Option.bind (fm_X17_changes  σ29) fun r30 => hl (pI σ29 21 4 r30) fun σ34 => some (σ34))) else (Option.bind (fm_X20_forget n σ) fun r9 => hl (pI r9 21 3 x3) fun σ13 => Option.bind (fm_X17_changes  σ13) fun r14 => hl (pI σ13 21 4 r14) fun σ18 => some (σ18))) fun r5 => hl (α := Int32) ((if x5 = 0 then 0 else 1)) fun v37 => hl (α := Int32) ((((((((jshl ((jush x1 12)) 2)) ||| ((jshl x4 1)))) ||| v37)) ||| 1073741824)) fun v38 => hk (inb ((((64 * x2)) + ((((jush x1 12)) &&& 63)))) (gL r5 21 1)) <| if (gC r5 21 1 ((((64 * x2)) + ((((jush x1 12)) &&& 63))))) = v38 then (hk (inb ((((64 * x2)) + ((((jush x1 12)) &&& 63)))) (gL r5 21 2)) <| some ((((gC r5 21 2 ((((64 * x2)) + ((((jush x1 12)) &&& 63)))))) ||| ((x1 &&& 4095))), r5)) else (Option.bind (fm_X20_walk x1 x2 x4 x5 r5) fun r42 => if r42.1 < 0 then (some (r42.1, r42.2)) else (hk (inb ((((64 * x2)) + ((((jush x1 12)) &&& 63)))) (gL r42.2 21 1)) <| hl (pC r42.2 21 1 ((((64 * x2)) + ((((jush x1 12)) &&& 63)))) v38) fun σ49 => hk (inb ((((64 * x2)) + ((((jush x1 12)) &&& 63)))) (gL σ49 21 2)) <| hl (pC σ49 21 2 ((((64 * x2)) + ((((jush x1 12)) &&& 63)))) r42.1) fun σ51 => some ((r42.1 ||| ((x1 &&& 4095))), σ51)))) else (Option.bind (fm_X17_has x1 σ) fun r56 => Option.bind (α := Int32) (if r56 = 0 then (Option.bind (fm_X20_access x2 σ) fun r66 => some (r66)) else (some (x1))) fun r62 => some (r62, σ))
set_option maxRecDepth 20000 in
set_option maxHeartbeats 4000000 in
theorem okX20_find (l : Launch) (E : hc_E) (A : Nat → Prop) (d : Nat) (n : Nat) (hD : 3 ≤ d) {x1 : Int32} {x2 : Int32} {x3 : Int32} {x4 : Int32} {x5 : Int32} {σ : hc_St} {r : (Int32 × hc_St)} (h : fm_X20_find n x1 x2 x3 x4 x5 σ = some r) (am : Nat → Nat → Nat) : hc_M l hc_V0 yX20_find (ws_ yX20_find cX20_find 10 (some .int)) d E A [.ref (E.2.1 21), .int x1, .int x2, .int x3, .int x4, .int x5] am [] σ (.inl (some (.int r.1))) r.2 := by
  have hd1 : 1 ≤ d := by omega
  refine hc_enter2 (own := RX20) [(0, .ref (E.2.1 21)), (1, .int x1), (2, .int x2), (3, .int x3), (4, .int x4), (5, .int x5)] pl_X20 rfl hc_V0_st hc_G0_nd rfl (Nat.le_of_ble_eq_true rfl) (fun X hC hem => ?_)
  unfold fm_X20_find at h
  refine hr_iload_n hC dX20_find_0 rfl ?_
  refine hr_if_lt (x := _) hC 24 dX20_find_1 (by decide) (fun c2 => ?_) (fun c2 => ?_)
  · rw [if_pos c2] at h
    refine hr_iload_n hC dX20_find_24 rfl ?_
    refine hr_aload_n hC dX20_find_25 rfl ?_
    refine hr_gI hC F21_3 dX20_find_26 q907 ?_
    obtain ⟨r5, e6, h⟩ := hx_bind h
    have J7 : hc_At hc_V0 E 10 X 66 [(0, .ref (E.2.1 21)), (1, .int x1), (2, .int x2), (4, .int x4), (5, .int x5)] [] r5 am [] := by
      refine hr_iload_n hC dX20_find_66 rfl ?_
      refine hr_bipush (v := 12) hC dX20_find_67 rfl ?_
      refine hr_iushr hC dX20_find_69 ?_
      refine hr_istore hC dX20_find_70 (by decide) ?_
      refine hr_bipush (v := 64) hC dX20_find_72 rfl ?_
      refine hr_iload_n hC dX20_find_74 rfl ?_
      refine hr_imul hC dX20_find_75 ?_
      refine hr_iload hC dX20_find_76 rfl ?_
      refine hr_bipush (v := 63) hC dX20_find_78 rfl ?_
      refine hr_iand hC dX20_find_80 ?_
      refine hr_iadd hC dX20_find_81 ?_
      refine hr_istore hC dX20_find_82 (by decide) ?_
      refine hr_iload hC dX20_find_84 rfl ?_
      refine hr_iconst (v := 2) hC dX20_find_86 rfl ?_
      refine hr_ishl hC dX20_find_87 ?_
      refine hr_iload hC dX20_find_88 rfl ?_
      refine hr_iconst (v := 1) hC dX20_find_90 rfl ?_
      refine hr_ishl hC dX20_find_91 ?_
      refine hr_ior hC dX20_find_92 ?_
      refine hr_iload hC dX20_find_93 rfl ?_
      obtain ⟨v37, hv37, h⟩ := hl_ok h
      have J53 : ∀ w54 : Int32, (if x5 = 0 then 0 else 1) = w54 → hc_At hc_V0 E 10 X 103 [(0, .ref (E.2.1 21)), (1, .int x1), (2, .int x2), (4, .int x4), (5, .int x5), (7, .int (((64 * x2)) + ((((jush x1 12)) &&& 63))))] [.int w54, .int (((jshl ((jush x1 12)) 2)) ||| ((jshl x4 1)))] r5 am [] := by
        intro w54 hw54
        obtain rfl := hv37.trans hw54
        refine hr_ior hC dX20_find_103 ?_
        refine hr_ldc hC dX20_find_104 q2547 ?_
        refine hr_ior hC dX20_find_106 ?_
        obtain ⟨v38, hv38, h⟩ := hl_ok h
        refine hr_istore hC dX20_find_107 (by decide) ?_
        rw [← hv38]
        refine hr_aload_n hC dX20_find_109 rfl ?_
        refine hr_gA hC F21_1 rfl dX20_find_110 q905 ?_
        refine hr_iload hC dX20_find_113 rfl ?_
        obtain ⟨c39, h⟩ := hk_ok h
        refine hs_iald hC A21_1 c39 dX20_find_115 ?_
        refine hr_iload hC dX20_find_116 rfl ?_
        refine hr_icmp_ne (x := _) hC 135 dX20_find_118 (by decide) (fun c41 => ?_) (fun c41 => ?_)
        · rw [if_neg c41] at h
          refine hr_aload_n hC dX20_find_135 rfl ?_
          refine hr_iload_n hC dX20_find_136 rfl ?_
          refine hr_iload_n hC dX20_find_137 rfl ?_
          refine hr_iload hC dX20_find_138 rfl ?_
          refine hr_iload hC dX20_find_140 rfl ?_
          obtain ⟨r42, e43, h⟩ := hx_bind h
          refine hs_callV0 hC 21 [_, _, _, _] _ dX20_find_142 q2548 q2550 qs160 q334 q2551 np_X20 rfl OB_21 pd_X20_walk (Nat.le_of_ble_eq_true rfl) hd1 (okX20_walk l E A (d - 1)  (by omega)  e43 am) rfl ?_
          refine hr_istore hC dX20_find_145 (by decide) ?_
          refine hr_iload hC dX20_find_147 rfl ?_
          refine hr_if_lt (x := _) hC 179 dX20_find_149 (by decide) (fun c47 => ?_) (fun c47 => ?_)
          · rw [if_pos c47] at h
            refine hr_iload hC dX20_find_179 rfl ?_
            obtain rfl := Option.some.inj h
            exact hr_iret hC dX20_find_181
          · rw [if_neg c47] at h
            refine hr_aload_n hC dX20_find_152 rfl ?_
            refine hr_gA hC F21_1 rfl dX20_find_153 q905 ?_
            refine hr_iload hC dX20_find_156 rfl ?_
            refine hr_iload hC dX20_find_158 rfl ?_
            obtain ⟨c48, h⟩ := hk_ok h
            obtain ⟨σ49, hσ49, h⟩ := hl_ok h
            refine hs_iast hC A21_1 c48 dX20_find_160 ?_
            rw [← hσ49]
            refine hr_aload_n hC dX20_find_161 rfl ?_
            refine hr_gA hC F21_2 rfl dX20_find_162 q906 ?_
            refine hr_iload hC dX20_find_165 rfl ?_
            refine hr_iload hC dX20_find_167 rfl ?_
            obtain ⟨c50, h⟩ := hk_ok h
            obtain ⟨σ51, hσ51, h⟩ := hl_ok h
            refine hs_iast hC A21_2 c50 dX20_find_169 ?_
            rw [← hσ51]
            refine hr_iload hC dX20_find_170 rfl ?_
            refine hr_iload_n hC dX20_find_172 rfl ?_
            refine hr_sipush (v := 4095) hC dX20_find_173 rfl ?_
            refine hr_iand hC dX20_find_176 ?_
            refine hr_ior hC dX20_find_177 ?_
            obtain rfl := Option.some.inj h
            exact hr_iret hC dX20_find_178
        · rw [if_pos c41] at h
          refine hr_aload_n hC dX20_find_121 rfl ?_
          refine hr_gA hC F21_2 rfl dX20_find_122 q906 ?_
          refine hr_iload hC dX20_find_125 rfl ?_
          obtain ⟨c52, h⟩ := hk_ok h
          refine hs_iald hC A21_2 c52 dX20_find_127 ?_
          refine hr_iload_n hC dX20_find_128 rfl ?_
          refine hr_sipush (v := 4095) hC dX20_find_129 rfl ?_
          refine hr_iand hC dX20_find_132 ?_
          refine hr_ior hC dX20_find_133 ?_
          obtain rfl := Option.some.inj h
          exact hr_iret hC dX20_find_134
      refine hr_if_eq (x := _) hC 102 dX20_find_95 (by decide) (fun c55 => ?_) (fun c55 => ?_)
      · refine hr_iconst (v := 0) hC dX20_find_102 rfl ?_
        exact hr_sub _ rfl (J53 _ (by first | (rw [if_pos c55]; done) | (simp only [if_pos c55]; done) | rfl))
      · refine hr_iconst (v := 1) hC dX20_find_98 rfl ?_
        refine hr_goto hC 103 dX20_find_99 (by decide) ?_
        exact hr_sub _ rfl (J53 _ (by first | (rw [if_neg c55]; done) | (simp only [if_neg c55]; done) | rfl))
    clear h
    have h := e6
    refine hr_icmp_ne (x := _) hC 46 dX20_find_29 (by decide) (fun c4 => ?_) (fun c4 => ?_)
    · rw [if_neg c4] at h
      refine hr_aload_n hC dX20_find_46 rfl ?_
      obtain ⟨r9, e10, h⟩ := hx_bind h
      refine hs_callV0 hC 21 [] _ dX20_find_47 q2539 q2541 qs159 q334 q2542 np_X20 rfl OB_21 pd_X20_forget (Nat.le_of_ble_eq_true rfl) hd1 (okX20_forget l E A (d - 1) n (by omega)  e10 am) rfl ?_
      refine hr_aload_n hC dX20_find_50 rfl ?_
      refine hr_iload_n hC dX20_find_51 rfl ?_
      obtain ⟨σ13, hσ13, h⟩ := hl_ok h
      refine hr_pI hC F21_3 PX20_3 dX20_find_52 q907 ?_
      rw [← hσ13]
      refine hr_aload_n hC dX20_find_55 rfl ?_
      refine hr_aload_n hC dX20_find_56 rfl ?_
      refine hr_gO 18 hC F21_0 rfl dX20_find_57 q904 ?_
      obtain ⟨r14, e15, h⟩ := hx_bind h
      refine hs_callV0 hC 18 [] _ dX20_find_60 q2535 q2536 q2537 q331 q2538 np_X17 rfl OB_18 pd_X17_changes (Nat.le_of_ble_eq_true rfl) hd1 (okX17_changes l E A (d - 1)  (by omega)  e15 am) rfl ?_
      obtain ⟨σ18, hσ18, h⟩ := hl_ok h
      refine hr_pI hC F21_4 PX20_4 dX20_find_63 q908 ?_
      rw [← hσ18]
      obtain rfl := Option.some.inj h
      exact hr_sub _ rfl (J7)
    · rw [if_pos c4] at h
      refine hr_aload_n hC dX20_find_32 rfl ?_
      refine hr_gI hC F21_4 dX20_find_33 q908 ?_
      refine hr_aload_n hC dX20_find_36 rfl ?_
      refine hr_gO 18 hC F21_0 rfl dX20_find_37 q904 ?_
      obtain ⟨r19, e20, h⟩ := hx_bind h
      refine hs_callV0 hC 18 [] _ dX20_find_40 q2535 q2536 q2537 q331 q2538 np_X17 rfl OB_18 pd_X17_changes (Nat.le_of_ble_eq_true rfl) hd1 (okX17_changes l E A (d - 1)  (by omega)  e20 am) rfl ?_
      refine hr_icmp_eq (x := _) hC 66 dX20_find_43 (by decide) (fun c24 => ?_) (fun c24 => ?_)
      · rw [if_pos c24] at h
        obtain rfl := Option.some.inj h
        exact hr_sub _ rfl (J7)
      · rw [if_neg c24] at h
        refine hr_aload_n hC dX20_find_46 rfl ?_
        obtain ⟨r25, e26, h⟩ := hx_bind h
        refine hs_callV0 hC 21 [] _ dX20_find_47 q2539 q2541 qs159 q334 q2542 np_X20 rfl OB_21 pd_X20_forget (Nat.le_of_ble_eq_true rfl) hd1 (okX20_forget l E A (d - 1) n (by omega)  e26 am) rfl ?_
        refine hr_aload_n hC dX20_find_50 rfl ?_
        refine hr_iload_n hC dX20_find_51 rfl ?_
        obtain ⟨σ29, hσ29, h⟩ := hl_ok h
        refine hr_pI hC F21_3 PX20_3 dX20_find_52 q907 ?_
        rw [← hσ29]
        refine hr_aload_n hC dX20_find_55 rfl ?_
        refine hr_aload_n hC dX20_find_56 rfl ?_
        refine hr_gO 18 hC F21_0 rfl dX20_find_57 q904 ?_
        obtain ⟨r30, e31, h⟩ := hx_bind h
        refine hs_callV0 hC 18 [] _ dX20_find_60 q2535 q2536 q2537 q331 q2538 np_X17 rfl OB_18 pd_X17_changes (Nat.le_of_ble_eq_true rfl) hd1 (okX17_changes l E A (d - 1)  (by omega)  e31 am) rfl ?_
        obtain ⟨σ34, hσ34, h⟩ := hl_ok h
        refine hr_pI hC F21_4 PX20_4 dX20_find_63 q908 ?_
        rw [← hσ34]
        obtain rfl := Option.some.inj h
        exact hr_sub _ rfl (J7)
  · rw [if_neg c2] at h
    refine hr_aload_n hC dX20_find_4 rfl ?_
    refine hr_gO 18 hC F21_0 rfl dX20_find_5 q904 ?_
    refine hr_iload_n hC dX20_find_8 rfl ?_
    obtain ⟨r56, e57, h⟩ := hx_bind h
    refine hs_callV0 hC 18 [_] _ dX20_find_9 q2528 q2529 q2530 q331 q2531 np_X17 rfl OB_18 pd_X17_has (Nat.le_of_ble_eq_true rfl) hd1 (okX17_has l E A (d - 1)  (by omega)  e57 am) rfl ?_
    obtain ⟨r62, e63, h⟩ := hx_bind h
    have J64 : hc_At hc_V0 E 10 X 23 [] [.int r62] σ am [] := by
      obtain rfl := Option.some.inj h
      exact hr_iret hC dX20_find_23
    clear h
    have h := e63
    refine hr_if_eq (x := _) hC 19 dX20_find_12 (by decide) (fun c61 => ?_) (fun c61 => ?_)
    · rw [if_pos c61] at h
      refine hr_iload_n hC dX20_find_19 rfl ?_
      obtain ⟨r66, e67, h⟩ := hx_bind h
      refine hs_callS0 hC [_] _ dX20_find_20 q2532 q2533 q334 q2534 np_X20 rfl pd_X20_access (Nat.le_of_ble_eq_true rfl) hd1 (okX20_access l E A (d - 1)  (by omega)  e67 am) rfl ?_
      obtain rfl := Option.some.inj h
      exact hr_sub _ rfl (J64)
    · rw [if_neg c61] at h
      refine hr_iload_n hC dX20_find_15 rfl ?_
      refine hr_goto hC 23 dX20_find_16 (by decide) ?_
      obtain rfl := Option.some.inj h
      exact hr_sub _ rfl (J64)
/-- HomeCompiler$Hart.find(II)I -/
def fm_X19_find (n : Nat) (x1 : Int32) (x2 : Int32) (σ : hc_St) : Option (Int32 × hc_St) := Option.bind (fm_X18_tables  σ) fun r1 => Option.bind (fm_X18_sum  σ) fun r5 => Option.bind (fm_X20_find n x1 x2 r1 ((gI σ 20 5)) r5 σ) fun r9 => some (r9.1, r9.2)
set_option maxRecDepth 20000 in
set_option maxHeartbeats 4000000 in
theorem okX19_find (l : Launch) (E : hc_E) (A : Nat → Prop) (d : Nat) (n : Nat) (hD : 4 ≤ d) {x1 : Int32} {x2 : Int32} {σ : hc_St} {r : (Int32 × hc_St)} (h : fm_X19_find n x1 x2 σ = some r) (am : Nat → Nat → Nat) : hc_M l hc_V0 yX19_find (ws_ yX19_find cX19_find 3 (some .int)) d E A [.ref (E.2.1 20), .int x1, .int x2] am [] σ (.inl (some (.int r.1))) r.2 := by
  have hd1 : 1 ≤ d := by omega
  refine hc_enter2 (own := RX19) [(0, .ref (E.2.1 20)), (1, .int x1), (2, .int x2)] pl_X19 rfl hc_V0_st hc_G0_nd rfl (Nat.le_of_ble_eq_true rfl) (fun X hC hem => ?_)
  unfold fm_X19_find at h
  refine hr_aload_n hC dX19_find_0 rfl ?_
  refine hr_gO 21 hC F20_2 rfl dX19_find_1 q922 ?_
  refine hr_iload_n hC dX19_find_4 rfl ?_
  refine hr_iload_n hC dX19_find_5 rfl ?_
  refine hr_aload_n hC dX19_find_6 rfl ?_
  refine hr_gO 19 hC F20_1 rfl dX19_find_7 q921 ?_
  obtain ⟨r1, e2, h⟩ := hx_bind h
  refine hs_callV0 hC 19 [] _ dX19_find_10 q2516 q2517 q2518 q332 q2519 np_X18 rfl OB_19 pd_X18_tables (Nat.le_of_ble_eq_true rfl) hd1 (okX18_tables l E A (d - 1)  (by omega)  e2 am) rfl ?_
  refine hr_aload_n hC dX19_find_13 rfl ?_
  refine hr_gI hC F20_5 dX19_find_14 q928 ?_
  refine hr_aload_n hC dX19_find_17 rfl ?_
  refine hr_gO 19 hC F20_1 rfl dX19_find_18 q921 ?_
  obtain ⟨r5, e6, h⟩ := hx_bind h
  refine hs_callV0 hC 19 [] _ dX19_find_21 q2520 q2521 q2522 q332 q2523 np_X18 rfl OB_19 pd_X18_sum (Nat.le_of_ble_eq_true rfl) hd1 (okX18_sum l E A (d - 1)  (by omega)  e6 am) rfl ?_
  obtain ⟨r9, e10, h⟩ := hx_bind h
  refine hs_callV0 hC 21 [_, _, _, _, _] _ dX19_find_24 q2524 q2525 q2526 q334 q2527 np_X20 rfl OB_21 pd_X20_find (Nat.le_of_ble_eq_true rfl) hd1 (okX20_find l E A (d - 1) n (by omega)  e10 am) rfl ?_
  obtain rfl := Option.some.inj h
  exact hr_iret hC dX19_find_27
/-- HomeCompiler$Decoder.system(II)I -/
def fm_X22_system  (x0 : Int32) (x1 : Int32) (σ : hc_St) : Option Int32 := if x1 = 0 then (hl (α := Int32) ((if (jush x0 25) = 9 then (if (((jshr x0 7)) &&& 31) = 0 then 1 else 0) else 0)) fun v5 => hl (α := Int32) ((if x0 = 115 then 73 else (if x0 = 1048691 then 74 else (if x0 = 270532723 then 75 else (if x0 = 273678451 then 76 else (if v5 = 0 then 1 else 76)))))) fun v8 => some v8) else (hl (α := Int32) ((if x1 = 4 then 1 else (80 + x1))) fun v22 => some v22)
set_option maxRecDepth 20000 in
set_option maxHeartbeats 4000000 in
theorem okX22_system (l : Launch) (E : hc_E) (A : Nat → Prop) (d : Nat)  (hD : 1 ≤ d) {x0 : Int32} {x1 : Int32} {σ : hc_St} {r : Int32} (h : fm_X22_system  x0 x1 σ = some r) (am : Nat → Nat → Nat) : hc_M l hc_V0 yX22_system (ws_ yX22_system cX22_system 3 (some .int)) d E A [.int x0, .int x1] am [] σ (.inl (some (.int r))) σ := by
  have hd1 : 1 ≤ d := by omega
  refine hc_enter2 (own := RX22) [(0, .int x0), (1, .int x1)] pl_X22 rfl hc_V0_st hc_G0_nd rfl (Nat.le_of_ble_eq_true rfl) (fun X hC hem => ?_)
  unfold fm_X22_system at h
  refine hr_iload_n hC dX22_system_0 rfl ?_
  refine hr_if_eq (x := _) hC 18 dX22_system_1 (by decide) (fun c2 => ?_) (fun c2 => ?_)
  · rw [if_pos c2] at h
    refine hr_iload_n hC dX22_system_18 rfl ?_
    refine hr_bipush (v := 25) hC dX22_system_19 rfl ?_
    refine hr_iushr hC dX22_system_21 ?_
    refine hr_bipush (v := 9) hC dX22_system_22 rfl ?_
    obtain ⟨v5, hv5, h⟩ := hl_ok h
    have J16 : ∀ w17 : Int32, (if (jush x0 25) = 9 then (if (((jshr x0 7)) &&& 31) = 0 then 1 else 0) else 0) = w17 → hc_At hc_V0 E 3 X 42 [(0, .int x0)] [.int w17] σ am [] := by
      intro w17 hw17
      obtain rfl := hv5.trans hw17
      refine hr_istore_n hC dX22_system_42 (by decide) ?_
      refine hr_iload_n hC dX22_system_43 rfl ?_
      refine hr_bipush (v := 115) hC dX22_system_44 rfl ?_
      obtain ⟨v8, hv8, h⟩ := hl_ok h
      have J9 : ∀ w10 : Int32, (if x0 = 115 then 73 else (if x0 = 1048691 then 74 else (if x0 = 270532723 then 75 else (if x0 = 273678451 then 76 else (if v5 = 0 then 1 else 76))))) = w10 → hc_At hc_V0 E 3 X 92 [] [.int w10] σ am [] := by
        intro w10 hw10
        obtain rfl := hv8.trans hw10
        obtain rfl := Option.some.inj h
        exact hr_iret hC dX22_system_92
      refine hr_icmp_ne (x := _) hC 54 dX22_system_46 (by decide) (fun c11 => ?_) (fun c11 => ?_)
      · refine hr_iload_n hC dX22_system_54 rfl ?_
        refine hr_ldc hC dX22_system_55 q2577 ?_
        refine hr_icmp_ne (x := _) hC 65 dX22_system_57 (by decide) (fun c12 => ?_) (fun c12 => ?_)
        · refine hr_iload_n hC dX22_system_65 rfl ?_
          refine hr_ldc hC dX22_system_66 q2578 ?_
          refine hr_icmp_ne (x := _) hC 76 dX22_system_68 (by decide) (fun c13 => ?_) (fun c13 => ?_)
          · refine hr_iload_n hC dX22_system_76 rfl ?_
            refine hr_ldc hC dX22_system_77 q2579 ?_
            refine hr_icmp_eq (x := _) hC 86 dX22_system_79 (by decide) (fun c14 => ?_) (fun c14 => ?_)
            · refine hr_bipush (v := 76) hC dX22_system_86 rfl ?_
              refine hr_goto hC 92 dX22_system_88 (by decide) ?_
              exact hr_sub _ rfl (J9 _ (by first | (rw [if_neg c11, if_neg c12, if_neg c13, if_pos c14]; done) | (simp only [if_neg c11, if_neg c12, if_neg c13, if_pos c14]; done) | rfl))
            · refine hr_iload_n hC dX22_system_82 rfl ?_
              refine hr_if_eq (x := _) hC 91 dX22_system_83 (by decide) (fun c15 => ?_) (fun c15 => ?_)
              · refine hr_iconst (v := 1) hC dX22_system_91 rfl ?_
                exact hr_sub _ rfl (J9 _ (by first | (rw [if_neg c11, if_neg c12, if_neg c13, if_neg c14, if_pos c15]; done) | (simp only [if_neg c11, if_neg c12, if_neg c13, if_neg c14, if_pos c15]; done) | rfl))
              · refine hr_bipush (v := 76) hC dX22_system_86 rfl ?_
                refine hr_goto hC 92 dX22_system_88 (by decide) ?_
                exact hr_sub _ rfl (J9 _ (by first | (rw [if_neg c11, if_neg c12, if_neg c13, if_neg c14, if_neg c15]; done) | (simp only [if_neg c11, if_neg c12, if_neg c13, if_neg c14, if_neg c15]; done) | rfl))
          · refine hr_bipush (v := 75) hC dX22_system_71 rfl ?_
            refine hr_goto hC 92 dX22_system_73 (by decide) ?_
            exact hr_sub _ rfl (J9 _ (by first | (rw [if_neg c11, if_neg c12, if_pos c13]; done) | (simp only [if_neg c11, if_neg c12, if_pos c13]; done) | rfl))
        · refine hr_bipush (v := 74) hC dX22_system_60 rfl ?_
          refine hr_goto hC 92 dX22_system_62 (by decide) ?_
          exact hr_sub _ rfl (J9 _ (by first | (rw [if_neg c11, if_pos c12]; done) | (simp only [if_neg c11, if_pos c12]; done) | rfl))
      · refine hr_bipush (v := 73) hC dX22_system_49 rfl ?_
        refine hr_goto hC 92 dX22_system_51 (by decide) ?_
        exact hr_sub _ rfl (J9 _ (by first | (rw [if_pos c11]; done) | (simp only [if_pos c11]; done) | rfl))
    refine hr_icmp_ne (x := _) hC 41 dX22_system_24 (by decide) (fun c18 => ?_) (fun c18 => ?_)
    · refine hr_iconst (v := 0) hC dX22_system_41 rfl ?_
      exact hr_sub _ rfl (J16 _ (by first | (rw [if_neg c18]; done) | (simp only [if_neg c18]; done) | rfl))
    · refine hr_iload_n hC dX22_system_27 rfl ?_
      refine hr_bipush (v := 7) hC dX22_system_28 rfl ?_
      refine hr_ishr hC dX22_system_30 ?_
      refine hr_bipush (v := 31) hC dX22_system_31 rfl ?_
      refine hr_iand hC dX22_system_33 ?_
      refine hr_if_ne (x := _) hC 41 dX22_system_34 (by decide) (fun c19 => ?_) (fun c19 => ?_)
      · refine hr_iconst (v := 0) hC dX22_system_41 rfl ?_
        exact hr_sub _ rfl (J16 _ (by first | (rw [if_pos c18, if_neg c19]; done) | (simp only [if_pos c18, if_neg c19]; done) | rfl))
      · refine hr_iconst (v := 1) hC dX22_system_37 rfl ?_
        refine hr_goto hC 42 dX22_system_38 (by decide) ?_
        exact hr_sub _ rfl (J16 _ (by first | (rw [if_pos c18, if_pos c19]; done) | (simp only [if_pos c18, if_pos c19]; done) | rfl))
  · rw [if_neg c2] at h
    refine hr_iload_n hC dX22_system_4 rfl ?_
    refine hr_iconst (v := 4) hC dX22_system_5 rfl ?_
    obtain ⟨v22, hv22, h⟩ := hl_ok h
    have J23 : ∀ w24 : Int32, (if x1 = 4 then 1 else (80 + x1)) = w24 → hc_At hc_V0 E 3 X 17 [] [.int w24] σ am [] := by
      intro w24 hw24
      obtain rfl := hv22.trans hw24
      obtain rfl := Option.some.inj h
      exact hr_iret hC dX22_system_17
    refine hr_icmp_ne (x := _) hC 13 dX22_system_6 (by decide) (fun c25 => ?_) (fun c25 => ?_)
    · refine hr_bipush (v := 80) hC dX22_system_13 rfl ?_
      refine hr_iload_n hC dX22_system_15 rfl ?_
      refine hr_iadd hC dX22_system_16 ?_
      exact hr_sub _ rfl (J23 _ (by first | (rw [if_neg c25]; done) | (simp only [if_neg c25]; done) | rfl))
    · refine hr_iconst (v := 1) hC dX22_system_9 rfl ?_
      refine hr_goto hC 17 dX22_system_10 (by decide) ?_
      exact hr_sub _ rfl (J23 _ (by first | (rw [if_pos c25]; done) | (simp only [if_pos c25]; done) | rfl))
/-- HomeCompiler$Decoder.reckoning(II)I -/
def fm_X22_reckoning  (x0 : Int32) (x1 : Int32) (σ : hc_St) : Option Int32 := if (x0 &&& 127) = 19 then (hl (α := Int32) ((if x1 = 1 then 1 else (if x1 = 5 then 1 else 0))) fun v17 => hl (α := Int32) ((if v17 = 0 then (32 + x1) else (if (jush x0 25) = 0 then (32 + x1) else (if x1 = 5 then (if (jush x0 25) = 32 then 40 else 1) else 1)))) fun v20 => some v20) else (if (x0 &&& 127) = 51 then (hl (α := Int32) ((if (jush x0 25) = 0 then (48 + x1) else (if (jush x0 25) = 1 then (64 + x1) else (if (jush x0 25) = 32 then (if x1 = 0 then 56 else (if x1 = 5 then 57 else 1)) else 1)))) fun v7 => some v7) else (some 1))
set_option maxRecDepth 20000 in
set_option maxHeartbeats 4000000 in
theorem okX22_reckoning (l : Launch) (E : hc_E) (A : Nat → Prop) (d : Nat)  (hD : 1 ≤ d) {x0 : Int32} {x1 : Int32} {σ : hc_St} {r : Int32} (h : fm_X22_reckoning  x0 x1 σ = some r) (am : Nat → Nat → Nat) : hc_M l hc_V0 yX22_reckoning (ws_ yX22_reckoning cX22_reckoning 4 (some .int)) d E A [.int x0, .int x1] am [] σ (.inl (some (.int r))) σ := by
  have hd1 : 1 ≤ d := by omega
  refine hc_enter2 (own := RX22) [(0, .int x0), (1, .int x1)] pl_X22 rfl hc_V0_st hc_G0_nd rfl (Nat.le_of_ble_eq_true rfl) (fun X hC hem => ?_)
  unfold fm_X22_reckoning at h
  refine hr_iload_n hC dX22_reckoning_0 rfl ?_
  refine hr_bipush (v := 25) hC dX22_reckoning_1 rfl ?_
  refine hr_iushr hC dX22_reckoning_3 ?_
  refine hr_istore_n hC dX22_reckoning_4 (by decide) ?_
  refine hr_iload_n hC dX22_reckoning_5 rfl ?_
  refine hr_bipush (v := 127) hC dX22_reckoning_6 rfl ?_
  refine hr_iand hC dX22_reckoning_8 ?_
  refine hr_bipush (v := 19) hC dX22_reckoning_9 rfl ?_
  refine hr_icmp_ne (x := _) hC 63 dX22_reckoning_11 (by decide) (fun c2 => ?_) (fun c2 => ?_)
  · rw [if_neg c2] at h
    refine hr_iload_n hC dX22_reckoning_63 rfl ?_
    refine hr_bipush (v := 127) hC dX22_reckoning_64 rfl ?_
    refine hr_iand hC dX22_reckoning_66 ?_
    refine hr_bipush (v := 51) hC dX22_reckoning_67 rfl ?_
    refine hr_icmp_ne (x := _) hC 126 dX22_reckoning_69 (by decide) (fun c4 => ?_) (fun c4 => ?_)
    · rw [if_neg c4] at h
      refine hr_iconst (v := 1) hC dX22_reckoning_126 rfl ?_
      obtain rfl := Option.some.inj h
      exact hr_iret hC dX22_reckoning_127
    · rw [if_pos c4] at h
      refine hr_iload_n hC dX22_reckoning_72 rfl ?_
      obtain ⟨v7, hv7, h⟩ := hl_ok h
      have J8 : ∀ w9 : Int32, (if (jush x0 25) = 0 then (48 + x1) else (if (jush x0 25) = 1 then (64 + x1) else (if (jush x0 25) = 32 then (if x1 = 0 then 56 else (if x1 = 5 then 57 else 1)) else 1))) = w9 → hc_At hc_V0 E 4 X 125 [] [.int w9] σ am [] := by
        intro w9 hw9
        obtain rfl := hv7.trans hw9
        obtain rfl := Option.some.inj h
        exact hr_iret hC dX22_reckoning_125
      refine hr_if_ne (x := _) hC 83 dX22_reckoning_73 (by decide) (fun c10 => ?_) (fun c10 => ?_)
      · refine hr_iload_n hC dX22_reckoning_83 rfl ?_
        refine hr_iconst (v := 1) hC dX22_reckoning_84 rfl ?_
        refine hr_icmp_ne (x := _) hC 95 dX22_reckoning_85 (by decide) (fun c11 => ?_) (fun c11 => ?_)
        · refine hr_iload_n hC dX22_reckoning_95 rfl ?_
          refine hr_bipush (v := 32) hC dX22_reckoning_96 rfl ?_
          refine hr_icmp_eq (x := _) hC 105 dX22_reckoning_98 (by decide) (fun c12 => ?_) (fun c12 => ?_)
          · refine hr_iload_n hC dX22_reckoning_105 rfl ?_
            refine hr_if_ne (x := _) hC 114 dX22_reckoning_106 (by decide) (fun c13 => ?_) (fun c13 => ?_)
            · refine hr_iload_n hC dX22_reckoning_114 rfl ?_
              refine hr_iconst (v := 5) hC dX22_reckoning_115 rfl ?_
              refine hr_icmp_ne (x := _) hC 124 dX22_reckoning_116 (by decide) (fun c14 => ?_) (fun c14 => ?_)
              · refine hr_iconst (v := 1) hC dX22_reckoning_124 rfl ?_
                exact hr_sub _ rfl (J8 _ (by first | (rw [if_neg c10, if_neg c11, if_pos c12, if_neg c13, if_neg c14]; done) | (simp only [if_neg c10, if_neg c11, if_pos c12, if_neg c13, if_neg c14]; done) | rfl))
              · refine hr_bipush (v := 57) hC dX22_reckoning_119 rfl ?_
                refine hr_goto hC 125 dX22_reckoning_121 (by decide) ?_
                exact hr_sub _ rfl (J8 _ (by first | (rw [if_neg c10, if_neg c11, if_pos c12, if_neg c13, if_pos c14]; done) | (simp only [if_neg c10, if_neg c11, if_pos c12, if_neg c13, if_pos c14]; done) | rfl))
            · refine hr_bipush (v := 56) hC dX22_reckoning_109 rfl ?_
              refine hr_goto hC 125 dX22_reckoning_111 (by decide) ?_
              exact hr_sub _ rfl (J8 _ (by first | (rw [if_neg c10, if_neg c11, if_pos c12, if_pos c13]; done) | (simp only [if_neg c10, if_neg c11, if_pos c12, if_pos c13]; done) | rfl))
          · refine hr_iconst (v := 1) hC dX22_reckoning_101 rfl ?_
            refine hr_goto hC 125 dX22_reckoning_102 (by decide) ?_
            exact hr_sub _ rfl (J8 _ (by first | (rw [if_neg c10, if_neg c11, if_neg c12]; done) | (simp only [if_neg c10, if_neg c11, if_neg c12]; done) | rfl))
        · refine hr_bipush (v := 64) hC dX22_reckoning_88 rfl ?_
          refine hr_iload_n hC dX22_reckoning_90 rfl ?_
          refine hr_iadd hC dX22_reckoning_91 ?_
          refine hr_goto hC 125 dX22_reckoning_92 (by decide) ?_
          exact hr_sub _ rfl (J8 _ (by first | (rw [if_neg c10, if_pos c11]; done) | (simp only [if_neg c10, if_pos c11]; done) | rfl))
      · refine hr_bipush (v := 48) hC dX22_reckoning_76 rfl ?_
        refine hr_iload_n hC dX22_reckoning_78 rfl ?_
        refine hr_iadd hC dX22_reckoning_79 ?_
        refine hr_goto hC 125 dX22_reckoning_80 (by decide) ?_
        exact hr_sub _ rfl (J8 _ (by first | (rw [if_pos c10]; done) | (simp only [if_pos c10]; done) | rfl))
  · rw [if_pos c2] at h
    refine hr_iload_n hC dX22_reckoning_14 rfl ?_
    refine hr_iconst (v := 1) hC dX22_reckoning_15 rfl ?_
    obtain ⟨v17, hv17, h⟩ := hl_ok h
    have J27 : ∀ w28 : Int32, (if x1 = 1 then 1 else (if x1 = 5 then 1 else 0)) = w28 → hc_At hc_V0 E 4 X 29 [(1, .int x1), (2, .int (jush x0 25))] [.int w28] σ am [] := by
      intro w28 hw28
      obtain rfl := hv17.trans hw28
      refine hr_istore_n hC dX22_reckoning_29 (by decide) ?_
      refine hr_iload_n hC dX22_reckoning_30 rfl ?_
      obtain ⟨v20, hv20, h⟩ := hl_ok h
      have J21 : ∀ w22 : Int32, (if v17 = 0 then (32 + x1) else (if (jush x0 25) = 0 then (32 + x1) else (if x1 = 5 then (if (jush x0 25) = 32 then 40 else 1) else 1))) = w22 → hc_At hc_V0 E 4 X 62 [] [.int w22] σ am [] := by
        intro w22 hw22
        obtain rfl := hv20.trans hw22
        obtain rfl := Option.some.inj h
        exact hr_iret hC dX22_reckoning_62
      refine hr_if_eq (x := _) hC 38 dX22_reckoning_31 (by decide) (fun c23 => ?_) (fun c23 => ?_)
      · refine hr_bipush (v := 32) hC dX22_reckoning_38 rfl ?_
        refine hr_iload_n hC dX22_reckoning_40 rfl ?_
        refine hr_iadd hC dX22_reckoning_41 ?_
        refine hr_goto hC 62 dX22_reckoning_42 (by decide) ?_
        exact hr_sub _ rfl (J21 _ (by first | (rw [if_pos c23]; done) | (simp only [if_pos c23]; done) | rfl))
      · refine hr_iload_n hC dX22_reckoning_34 rfl ?_
        refine hr_if_ne (x := _) hC 45 dX22_reckoning_35 (by decide) (fun c24 => ?_) (fun c24 => ?_)
        · refine hr_iload_n hC dX22_reckoning_45 rfl ?_
          refine hr_iconst (v := 5) hC dX22_reckoning_46 rfl ?_
          refine hr_icmp_ne (x := _) hC 61 dX22_reckoning_47 (by decide) (fun c25 => ?_) (fun c25 => ?_)
          · refine hr_iconst (v := 1) hC dX22_reckoning_61 rfl ?_
            exact hr_sub _ rfl (J21 _ (by first | (rw [if_neg c23, if_neg c24, if_neg c25]; done) | (simp only [if_neg c23, if_neg c24, if_neg c25]; done) | rfl))
          · refine hr_iload_n hC dX22_reckoning_50 rfl ?_
            refine hr_bipush (v := 32) hC dX22_reckoning_51 rfl ?_
            refine hr_icmp_ne (x := _) hC 61 dX22_reckoning_53 (by decide) (fun c26 => ?_) (fun c26 => ?_)
            · refine hr_iconst (v := 1) hC dX22_reckoning_61 rfl ?_
              exact hr_sub _ rfl (J21 _ (by first | (rw [if_neg c23, if_neg c24, if_pos c25, if_neg c26]; done) | (simp only [if_neg c23, if_neg c24, if_pos c25, if_neg c26]; done) | rfl))
            · refine hr_bipush (v := 40) hC dX22_reckoning_56 rfl ?_
              refine hr_goto hC 62 dX22_reckoning_58 (by decide) ?_
              exact hr_sub _ rfl (J21 _ (by first | (rw [if_neg c23, if_neg c24, if_pos c25, if_pos c26]; done) | (simp only [if_neg c23, if_neg c24, if_pos c25, if_pos c26]; done) | rfl))
        · refine hr_bipush (v := 32) hC dX22_reckoning_38 rfl ?_
          refine hr_iload_n hC dX22_reckoning_40 rfl ?_
          refine hr_iadd hC dX22_reckoning_41 ?_
          refine hr_goto hC 62 dX22_reckoning_42 (by decide) ?_
          exact hr_sub _ rfl (J21 _ (by first | (rw [if_neg c23, if_pos c24]; done) | (simp only [if_neg c23, if_pos c24]; done) | rfl))
    refine hr_icmp_eq (x := _) hC 24 dX22_reckoning_16 (by decide) (fun c29 => ?_) (fun c29 => ?_)
    · refine hr_iconst (v := 1) hC dX22_reckoning_24 rfl ?_
      refine hr_goto hC 29 dX22_reckoning_25 (by decide) ?_
      exact hr_sub _ rfl (J27 _ (by first | (rw [if_pos c29]; done) | (simp only [if_pos c29]; done) | rfl))
    · refine hr_iload_n hC dX22_reckoning_19 rfl ?_
      refine hr_iconst (v := 5) hC dX22_reckoning_20 rfl ?_
      refine hr_icmp_ne (x := _) hC 28 dX22_reckoning_21 (by decide) (fun c30 => ?_) (fun c30 => ?_)
      · refine hr_iconst (v := 0) hC dX22_reckoning_28 rfl ?_
        exact hr_sub _ rfl (J27 _ (by first | (rw [if_neg c29, if_neg c30]; done) | (simp only [if_neg c29, if_neg c30]; done) | rfl))
      · refine hr_iconst (v := 1) hC dX22_reckoning_24 rfl ?_
        refine hr_goto hC 29 dX22_reckoning_25 (by decide) ?_
        exact hr_sub _ rfl (J27 _ (by first | (rw [if_neg c29, if_pos c30]; done) | (simp only [if_neg c29, if_pos c30]; done) | rfl))
/-- HomeCompiler$Decoder.operation(I)I -/
def fm_X22_operation  (x0 : Int32) (σ : hc_St) : Option Int32 := if (x0 &&& 127) = 3 then (hl (α := Int32) ((if (((jshr x0 12)) &&& 7) = 3 then 1 else (if (((jshr x0 12)) &&& 7) ≤ 5 then (16 + ((((jshr x0 12)) &&& 7))) else 1))) fun v7 => some v7) else if (x0 &&& 127) = 15 then (hl (α := Int32) ((if (((jshr x0 12)) &&& 7) = 0 then 72 else 1)) fun v14 => some v14) else if (x0 &&& 127) = 23 then (some 3) else if (x0 &&& 127) = 35 then (hl (α := Int32) ((if (((jshr x0 12)) &&& 7) ≤ 2 then (24 + ((((jshr x0 12)) &&& 7))) else 1)) fun v20 => some v20) else if (x0 &&& 127) = 55 then (some 2) else if (x0 &&& 127) = 99 then (hl (α := Int32) ((if (((jshr x0 12)) &&& 7) = 2 then 1 else (if (((jshr x0 12)) &&& 7) = 3 then 1 else (8 + ((((jshr x0 12)) &&& 7)))))) fun v26 => some v26) else if (x0 &&& 127) = 103 then (hl (α := Int32) ((if (((jshr x0 12)) &&& 7) = 0 then 5 else 1)) fun v33 => some v33) else if (x0 &&& 127) = 111 then (some 4) else if (x0 &&& 127) = 115 then (Option.bind (fm_X22_system x0 ((((jshr x0 12)) &&& 7)) σ) fun r37 => some r37) else (Option.bind (fm_X22_reckoning x0 ((((jshr x0 12)) &&& 7)) σ) fun r1 => some r1)
set_option maxRecDepth 20000 in
set_option maxHeartbeats 4000000 in
theorem okX22_operation (l : Launch) (E : hc_E) (A : Nat → Prop) (d : Nat)  (hD : 2 ≤ d) {x0 : Int32} {σ : hc_St} {r : Int32} (h : fm_X22_operation  x0 σ = some r) (am : Nat → Nat → Nat) : hc_M l hc_V0 yX22_operation (ws_ yX22_operation cX22_operation 2 (some .int)) d E A [.int x0] am [] σ (.inl (some (.int r))) σ := by
  have hd1 : 1 ≤ d := by omega
  refine hc_enter2 (own := RX22) [(0, .int x0)] pl_X22 rfl hc_V0_st hc_G0_nd rfl (Nat.le_of_ble_eq_true rfl) (fun X hC hem => ?_)
  unfold fm_X22_operation at h
  refine hr_iload_n hC dX22_operation_0 rfl ?_
  refine hr_bipush (v := 12) hC dX22_operation_1 rfl ?_
  refine hr_ishr hC dX22_operation_3 ?_
  refine hr_bipush (v := 7) hC dX22_operation_4 rfl ?_
  refine hr_iand hC dX22_operation_6 ?_
  refine hr_istore_n hC dX22_operation_7 (by decide) ?_
  refine hr_iload_n hC dX22_operation_8 rfl ?_
  refine hr_bipush (v := 127) hC dX22_operation_9 rfl ?_
  refine hr_iand hC dX22_operation_11 ?_
  by_cases c41 : (x0 &&& 127) = 3
  · rw [if_pos c41] at h
    refine hr_lookup hC 131 dX22_operation_12 (by decide) (by rw [c41] <;> rfl) (by decide) ?_
    refine hr_iload_n hC dX22_operation_131 rfl ?_
    refine hr_iconst (v := 3) hC dX22_operation_132 rfl ?_
    obtain ⟨v7, hv7, h⟩ := hl_ok h
    have J8 : ∀ w9 : Int32, (if (((jshr x0 12)) &&& 7) = 3 then 1 else (if (((jshr x0 12)) &&& 7) ≤ 5 then (16 + ((((jshr x0 12)) &&& 7))) else 1)) = w9 → hc_At hc_V0 E 2 X 149 [] [.int w9] σ am [] := by
      intro w9 hw9
      obtain rfl := hv7.trans hw9
      obtain rfl := Option.some.inj h
      exact hr_iret hC dX22_operation_149
    refine hr_icmp_eq (x := _) hC 141 dX22_operation_133 (by decide) (fun c10 => ?_) (fun c10 => ?_)
    · refine hr_iconst (v := 1) hC dX22_operation_141 rfl ?_
      refine hr_goto hC 149 dX22_operation_142 (by decide) ?_
      exact hr_sub _ rfl (J8 _ (by first | (rw [if_pos c10]; done) | (simp only [if_pos c10]; done) | rfl))
    · refine hr_iload_n hC dX22_operation_136 rfl ?_
      refine hr_iconst (v := 5) hC dX22_operation_137 rfl ?_
      refine hr_icmp_le (x := _) hC 145 dX22_operation_138 (by decide) (fun c11 => ?_) (fun c11 => ?_)
      · refine hr_bipush (v := 16) hC dX22_operation_145 rfl ?_
        refine hr_iload_n hC dX22_operation_147 rfl ?_
        refine hr_iadd hC dX22_operation_148 ?_
        exact hr_sub _ rfl (J8 _ (by first | (rw [if_neg c10, if_pos c11]; done) | (simp only [if_neg c10, if_pos c11]; done) | rfl))
      · refine hr_iconst (v := 1) hC dX22_operation_141 rfl ?_
        refine hr_goto hC 149 dX22_operation_142 (by decide) ?_
        exact hr_sub _ rfl (J8 _ (by first | (rw [if_neg c10, if_neg c11]; done) | (simp only [if_neg c10, if_neg c11]; done) | rfl))
  rw [if_neg c41] at h
  by_cases c42 : (x0 &&& 127) = 15
  · rw [if_pos c42] at h
    refine hr_lookup hC 164 dX22_operation_12 (by decide) (by rw [c42] <;> rfl) (by decide) ?_
    refine hr_iload_n hC dX22_operation_164 rfl ?_
    obtain ⟨v14, hv14, h⟩ := hl_ok h
    have J15 : ∀ w16 : Int32, (if (((jshr x0 12)) &&& 7) = 0 then 72 else 1) = w16 → hc_At hc_V0 E 2 X 174 [] [.int w16] σ am [] := by
      intro w16 hw16
      obtain rfl := hv14.trans hw16
      obtain rfl := Option.some.inj h
      exact hr_iret hC dX22_operation_174
    refine hr_if_ne (x := _) hC 173 dX22_operation_165 (by decide) (fun c17 => ?_) (fun c17 => ?_)
    · refine hr_iconst (v := 1) hC dX22_operation_173 rfl ?_
      exact hr_sub _ rfl (J15 _ (by first | (rw [if_neg c17]; done) | (simp only [if_neg c17]; done) | rfl))
    · refine hr_bipush (v := 72) hC dX22_operation_168 rfl ?_
      refine hr_goto hC 174 dX22_operation_170 (by decide) ?_
      exact hr_sub _ rfl (J15 _ (by first | (rw [if_pos c17]; done) | (simp only [if_pos c17]; done) | rfl))
  rw [if_neg c42] at h
  by_cases c43 : (x0 &&& 127) = 23
  · rw [if_pos c43] at h
    refine hr_lookup hC 98 dX22_operation_12 (by decide) (by rw [c43] <;> rfl) (by decide) ?_
    refine hr_iconst (v := 3) hC dX22_operation_98 rfl ?_
    obtain rfl := Option.some.inj h
    exact hr_iret hC dX22_operation_99
  rw [if_neg c43] at h
  by_cases c44 : (x0 &&& 127) = 35
  · rw [if_pos c44] at h
    refine hr_lookup hC 150 dX22_operation_12 (by decide) (by rw [c44] <;> rfl) (by decide) ?_
    refine hr_iload_n hC dX22_operation_150 rfl ?_
    refine hr_iconst (v := 2) hC dX22_operation_151 rfl ?_
    obtain ⟨v20, hv20, h⟩ := hl_ok h
    have J21 : ∀ w22 : Int32, (if (((jshr x0 12)) &&& 7) ≤ 2 then (24 + ((((jshr x0 12)) &&& 7))) else 1) = w22 → hc_At hc_V0 E 2 X 163 [] [.int w22] σ am [] := by
      intro w22 hw22
      obtain rfl := hv20.trans hw22
      obtain rfl := Option.some.inj h
      exact hr_iret hC dX22_operation_163
    refine hr_icmp_le (x := _) hC 159 dX22_operation_152 (by decide) (fun c23 => ?_) (fun c23 => ?_)
    · refine hr_bipush (v := 24) hC dX22_operation_159 rfl ?_
      refine hr_iload_n hC dX22_operation_161 rfl ?_
      refine hr_iadd hC dX22_operation_162 ?_
      exact hr_sub _ rfl (J21 _ (by first | (rw [if_pos c23]; done) | (simp only [if_pos c23]; done) | rfl))
    · refine hr_iconst (v := 1) hC dX22_operation_155 rfl ?_
      refine hr_goto hC 163 dX22_operation_156 (by decide) ?_
      exact hr_sub _ rfl (J21 _ (by first | (rw [if_neg c23]; done) | (simp only [if_neg c23]; done) | rfl))
  rw [if_neg c44] at h
  by_cases c45 : (x0 &&& 127) = 55
  · rw [if_pos c45] at h
    refine hr_lookup hC 96 dX22_operation_12 (by decide) (by rw [c45] <;> rfl) (by decide) ?_
    refine hr_iconst (v := 2) hC dX22_operation_96 rfl ?_
    obtain rfl := Option.some.inj h
    exact hr_iret hC dX22_operation_97
  rw [if_neg c45] at h
  by_cases c46 : (x0 &&& 127) = 99
  · rw [if_pos c46] at h
    refine hr_lookup hC 112 dX22_operation_12 (by decide) (by rw [c46] <;> rfl) (by decide) ?_
    refine hr_iload_n hC dX22_operation_112 rfl ?_
    refine hr_iconst (v := 2) hC dX22_operation_113 rfl ?_
    obtain ⟨v26, hv26, h⟩ := hl_ok h
    have J27 : ∀ w28 : Int32, (if (((jshr x0 12)) &&& 7) = 2 then 1 else (if (((jshr x0 12)) &&& 7) = 3 then 1 else (8 + ((((jshr x0 12)) &&& 7))))) = w28 → hc_At hc_V0 E 2 X 130 [] [.int w28] σ am [] := by
      intro w28 hw28
      obtain rfl := hv26.trans hw28
      obtain rfl := Option.some.inj h
      exact hr_iret hC dX22_operation_130
    refine hr_icmp_eq (x := _) hC 122 dX22_operation_114 (by decide) (fun c29 => ?_) (fun c29 => ?_)
    · refine hr_iconst (v := 1) hC dX22_operation_122 rfl ?_
      refine hr_goto hC 130 dX22_operation_123 (by decide) ?_
      exact hr_sub _ rfl (J27 _ (by first | (rw [if_pos c29]; done) | (simp only [if_pos c29]; done) | rfl))
    · refine hr_iload_n hC dX22_operation_117 rfl ?_
      refine hr_iconst (v := 3) hC dX22_operation_118 rfl ?_
      refine hr_icmp_ne (x := _) hC 126 dX22_operation_119 (by decide) (fun c30 => ?_) (fun c30 => ?_)
      · refine hr_bipush (v := 8) hC dX22_operation_126 rfl ?_
        refine hr_iload_n hC dX22_operation_128 rfl ?_
        refine hr_iadd hC dX22_operation_129 ?_
        exact hr_sub _ rfl (J27 _ (by first | (rw [if_neg c29, if_neg c30]; done) | (simp only [if_neg c29, if_neg c30]; done) | rfl))
      · refine hr_iconst (v := 1) hC dX22_operation_122 rfl ?_
        refine hr_goto hC 130 dX22_operation_123 (by decide) ?_
        exact hr_sub _ rfl (J27 _ (by first | (rw [if_neg c29, if_pos c30]; done) | (simp only [if_neg c29, if_pos c30]; done) | rfl))
  rw [if_neg c46] at h
  by_cases c47 : (x0 &&& 127) = 103
  · rw [if_pos c47] at h
    refine hr_lookup hC 102 dX22_operation_12 (by decide) (by rw [c47] <;> rfl) (by decide) ?_
    refine hr_iload_n hC dX22_operation_102 rfl ?_
    obtain ⟨v33, hv33, h⟩ := hl_ok h
    have J34 : ∀ w35 : Int32, (if (((jshr x0 12)) &&& 7) = 0 then 5 else 1) = w35 → hc_At hc_V0 E 2 X 111 [] [.int w35] σ am [] := by
      intro w35 hw35
      obtain rfl := hv33.trans hw35
      obtain rfl := Option.some.inj h
      exact hr_iret hC dX22_operation_111
    refine hr_if_ne (x := _) hC 110 dX22_operation_103 (by decide) (fun c36 => ?_) (fun c36 => ?_)
    · refine hr_iconst (v := 1) hC dX22_operation_110 rfl ?_
      exact hr_sub _ rfl (J34 _ (by first | (rw [if_neg c36]; done) | (simp only [if_neg c36]; done) | rfl))
    · refine hr_iconst (v := 5) hC dX22_operation_106 rfl ?_
      refine hr_goto hC 111 dX22_operation_107 (by decide) ?_
      exact hr_sub _ rfl (J34 _ (by first | (rw [if_pos c36]; done) | (simp only [if_pos c36]; done) | rfl))
  rw [if_neg c47] at h
  by_cases c48 : (x0 &&& 127) = 111
  · rw [if_pos c48] at h
    refine hr_lookup hC 100 dX22_operation_12 (by decide) (by rw [c48] <;> rfl) (by decide) ?_
    refine hr_iconst (v := 4) hC dX22_operation_100 rfl ?_
    obtain rfl := Option.some.inj h
    exact hr_iret hC dX22_operation_101
  rw [if_neg c48] at h
  by_cases c49 : (x0 &&& 127) = 115
  · rw [if_pos c49] at h
    refine hr_lookup hC 175 dX22_operation_12 (by decide) (by rw [c49] <;> rfl) (by decide) ?_
    refine hr_iload_n hC dX22_operation_175 rfl ?_
    refine hr_iload_n hC dX22_operation_176 rfl ?_
    obtain ⟨r37, e38, h⟩ := hx_bind h
    refine hs_callS0 hC [_, _] _ dX22_operation_177 q2574 q2575 q348 q2576 np_X22 rfl pd_X22_system (Nat.le_of_ble_eq_true rfl) hd1 (okX22_system l E A (d - 1)  (by omega)  e38 am) rfl ?_
    obtain rfl := Option.some.inj h
    exact hr_iret hC dX22_operation_180
  rw [if_neg c49] at h
  refine hr_lookup hC 181 dX22_operation_12 (by decide) (hc_lkD (hc_l1 (hc_ne c41 rfl) (hc_l1 (hc_ne c42 rfl) (hc_l1 (hc_ne c43 rfl) (hc_l1 (hc_ne c44 rfl) (hc_l1 (hc_ne c45 rfl) (hc_l1 (hc_ne c46 rfl) (hc_l1 (hc_ne c47 rfl) (hc_l1 (hc_ne c48 rfl) (hc_l1 (hc_ne c49 rfl) hc_l0)))))))))) (by decide) ?_
  refine hr_iload_n hC dX22_operation_181 rfl ?_
  refine hr_iload_n hC dX22_operation_182 rfl ?_
  obtain ⟨r1, e2, h⟩ := hx_bind h
  refine hs_callS0 hC [_, _] _ dX22_operation_183 q2580 q2581 q348 q2582 np_X22 rfl pd_X22_reckoning (Nat.le_of_ble_eq_true rfl) hd1 (okX22_reckoning l E A (d - 1)  (by omega)  e2 am) rfl ?_
  obtain rfl := Option.some.inj h
  exact hr_iret hC dX22_operation_186
/-- HomeCompiler$Ram.operation(I)I -/
def fm_X17_operation  (x1 : Int32) (σ : hc_St) : Option (Int32 × hc_St) := hk (inb ((jshr x1 2)) (gL σ 18 2)) <| Option.bind (α := hc_St) (if (gC σ 18 2 ((jshr x1 2))).toInt8.toInt32 = 0 then (hk (inb ((jshr x1 2)) (gL σ 18 1)) <| Option.bind (fm_X22_operation ((gC σ 18 1 ((jshr x1 2)))) σ) fun r9 => hk (inb ((jshr x1 2)) (gL σ 18 2)) <| hl (pC σ 18 2 ((jshr x1 2)) ((r9.toInt8.toInt32))) fun σ14 => some (σ14)) else (some (σ))) fun r4 => hk (inb ((jshr x1 2)) (gL r4 18 2)) <| some ((gC r4 18 2 ((jshr x1 2))).toInt8.toInt32, r4)
set_option maxRecDepth 20000 in
set_option maxHeartbeats 4000000 in
theorem okX17_operation (l : Launch) (E : hc_E) (A : Nat → Prop) (d : Nat)  (hD : 3 ≤ d) {x1 : Int32} {σ : hc_St} {r : (Int32 × hc_St)} (h : fm_X17_operation  x1 σ = some r) (am : Nat → Nat → Nat) : hc_M l hc_V0 yX17_operation (ws_ yX17_operation cX17_operation 3 (some .int)) d E A [.ref (E.2.1 18), .int x1] am [] σ (.inl (some (.int r.1))) r.2 := by
  have hd1 : 1 ≤ d := by omega
  refine hc_enter2 (own := RX17) [(0, .ref (E.2.1 18)), (1, .int x1)] pl_X17 rfl hc_V0_st hc_G0_nd rfl (Nat.le_of_ble_eq_true rfl) (fun X hC hem => ?_)
  unfold fm_X17_operation at h
  refine hr_iload_n hC dX17_operation_0 rfl ?_
  refine hr_iconst (v := 2) hC dX17_operation_1 rfl ?_
  refine hr_ishr hC dX17_operation_2 ?_
  refine hr_istore_n hC dX17_operation_3 (by decide) ?_
  refine hr_aload_n hC dX17_operation_4 rfl ?_
  refine hr_gA hC F18_2 rfl dX17_operation_5 q867 ?_
  refine hr_iload_n hC dX17_operation_8 rfl ?_
  obtain ⟨c1, h⟩ := hk_ok h
  refine hs_bald hC A18_2 c1 dX17_operation_9 ?_
  obtain ⟨r4, e5, h⟩ := hx_bind h
  have J6 : hc_At hc_V0 E 3 X 29 [(0, .ref (E.2.1 18)), (2, .int (jshr x1 2))] [] r4 am [] := by
    refine hr_aload_n hC dX17_operation_29 rfl ?_
    refine hr_gA hC F18_2 rfl dX17_operation_30 q867 ?_
    refine hr_iload_n hC dX17_operation_33 rfl ?_
    obtain ⟨c15, h⟩ := hk_ok h
    refine hs_bald hC A18_2 c15 dX17_operation_34 ?_
    obtain rfl := Option.some.inj h
    exact hr_iret hC dX17_operation_35
  clear h
  have h := e5
  refine hr_if_ne (x := _) hC 29 dX17_operation_10 (by decide) (fun c3 => ?_) (fun c3 => ?_)
  · rw [if_neg c3] at h
    obtain rfl := Option.some.inj h
    exact hr_sub _ rfl (J6)
  · rw [if_pos c3] at h
    refine hr_aload_n hC dX17_operation_13 rfl ?_
    refine hr_gA hC F18_2 rfl dX17_operation_14 q867 ?_
    refine hr_iload_n hC dX17_operation_17 rfl ?_
    refine hr_aload_n hC dX17_operation_18 rfl ?_
    refine hr_gA hC F18_1 rfl dX17_operation_19 q866 ?_
    refine hr_iload_n hC dX17_operation_22 rfl ?_
    obtain ⟨c8, h⟩ := hk_ok h
    refine hs_iald hC A18_1 c8 dX17_operation_23 ?_
    obtain ⟨r9, e10, h⟩ := hx_bind h
    refine hs_callS0 hC [_] _ dX17_operation_24 q2571 q2572 q348 q2573 np_X22 rfl pd_X22_operation (Nat.le_of_ble_eq_true rfl) hd1 (okX22_operation l E A (d - 1)  (by omega)  e10 am) rfl ?_
    refine hr_i2b hC dX17_operation_27 ?_
    obtain ⟨c13, h⟩ := hk_ok h
    obtain ⟨σ14, hσ14, h⟩ := hl_ok h
    refine hs_bast hC A18_2 c13 dX17_operation_28 ?_
    rw [← hσ14]
    obtain rfl := Option.some.inj h
    exact hr_sub _ rfl (J6)
/-- HomeCompiler$Controls.back()I -/
def fm_X18_back   (σ : hc_St) : Option (Int32 × hc_St) := hk (inb 0 (gL σ 19 0)) <| hl (α := Int32) ((if (((gC σ 19 0 0)) &&& 256) = 0 then 0 else 1)) fun v4 => hk (inb 0 (gL σ 19 0)) <| hk (inb 0 (gL σ 19 0)) <| hl (pC σ 19 0 0 ((((gC σ 19 0 0)) &&& 262144))) fun σ7 => some (v4, σ7)
set_option maxRecDepth 20000 in
set_option maxHeartbeats 4000000 in
theorem okX18_back (l : Launch) (E : hc_E) (A : Nat → Prop) (d : Nat)  (hD : 1 ≤ d)  {σ : hc_St} {r : (Int32 × hc_St)} (h : fm_X18_back   σ = some r) (am : Nat → Nat → Nat) : hc_M l hc_V0 yX18_back (ws_ yX18_back cX18_back 2 (some .int)) d E A [.ref (E.2.1 19)] am [] σ (.inl (some (.int r.1))) r.2 := by
  have hd1 : 1 ≤ d := by omega
  refine hc_enter2 (own := RX18) [(0, .ref (E.2.1 19))] pl_X18 rfl hc_V0_st hc_G0_nd rfl (Nat.le_of_ble_eq_true rfl) (fun X hC hem => ?_)
  unfold fm_X18_back at h
  refine hr_aload_n hC dX18_back_0 rfl ?_
  refine hr_gA hC F19_0 rfl dX18_back_1 q888 ?_
  refine hr_iconst (v := 0) hC dX18_back_4 rfl ?_
  obtain ⟨c1, h⟩ := hk_ok h
  refine hs_iald hC A19_0 c1 dX18_back_5 ?_
  refine hr_sipush (v := 256) hC dX18_back_6 rfl ?_
  refine hr_iand hC dX18_back_9 ?_
  obtain ⟨v4, hv4, h⟩ := hl_ok h
  have J8 : ∀ w9 : Int32, (if (((gC σ 19 0 0)) &&& 256) = 0 then 0 else 1) = w9 → hc_At hc_V0 E 2 X 18 [(0, .ref (E.2.1 19))] [.int w9] σ am [] := by
    intro w9 hw9
    obtain rfl := hv4.trans hw9
    refine hr_istore_n hC dX18_back_18 (by decide) ?_
    refine hr_aload_n hC dX18_back_19 rfl ?_
    refine hr_gA hC F19_0 rfl dX18_back_20 q888 ?_
    refine hr_iconst (v := 0) hC dX18_back_23 rfl ?_
    refine hr_dup2 hC dX18_back_24 rfl rfl ?_
    obtain ⟨c5, h⟩ := hk_ok h
    refine hs_iald hC A19_0 c5 dX18_back_25 ?_
    refine hr_ldc hC dX18_back_26 q2506 ?_
    refine hr_iand hC dX18_back_28 ?_
    obtain ⟨c6, h⟩ := hk_ok h
    obtain ⟨σ7, hσ7, h⟩ := hl_ok h
    refine hs_iast hC A19_0 c6 dX18_back_29 ?_
    rw [← hσ7]
    refine hr_iload_n hC dX18_back_30 rfl ?_
    obtain rfl := Option.some.inj h
    exact hr_iret hC dX18_back_31
  refine hr_if_ne (x := _) hC 17 dX18_back_10 (by decide) (fun c10 => ?_) (fun c10 => ?_)
  · refine hr_iconst (v := 1) hC dX18_back_17 rfl ?_
    exact hr_sub _ rfl (J8 _ (by first | (rw [if_neg c10]; done) | (simp only [if_neg c10]; done) | rfl))
  · refine hr_iconst (v := 0) hC dX18_back_13 rfl ?_
    refine hr_goto hC 18 dX18_back_14 (by decide) ?_
    exact hr_sub _ rfl (J8 _ (by first | (rw [if_pos c10]; done) | (simp only [if_pos c10]; done) | rfl))
/-- HomeCompiler$Controls.returns()I -/
def fm_X18_returns   (σ : hc_St) : Option Int32 := hk (inb 3 (gL σ 19 0)) <| some ((gC σ 19 0 3))
set_option maxRecDepth 20000 in
set_option maxHeartbeats 4000000 in
theorem okX18_returns (l : Launch) (E : hc_E) (A : Nat → Prop) (d : Nat)  (hD : 1 ≤ d)  {σ : hc_St} {r : Int32} (h : fm_X18_returns   σ = some r) (am : Nat → Nat → Nat) : hc_M l hc_V0 yX18_returns (ws_ yX18_returns cX18_returns 1 (some .int)) d E A [.ref (E.2.1 19)] am [] σ (.inl (some (.int r))) σ := by
  have hd1 : 1 ≤ d := by omega
  refine hc_enter2 (own := RX18) [(0, .ref (E.2.1 19))] pl_X18 rfl hc_V0_st hc_G0_nd rfl (Nat.le_of_ble_eq_true rfl) (fun X hC hem => ?_)
  unfold fm_X18_returns at h
  refine hr_aload_n hC dX18_returns_0 rfl ?_
  refine hr_gA hC F19_0 rfl dX18_returns_1 q888 ?_
  refine hr_iconst (v := 3) hC dX18_returns_4 rfl ?_
  obtain ⟨c1, h⟩ := hk_ok h
  refine hs_iald hC A19_0 c1 dX18_returns_5 ?_
  obtain rfl := Option.some.inj h
  exact hr_iret hC dX18_returns_6
/-- HomeCompiler$Controls.place(I)I -/
def fm_X18_place  (x0 : Int32) (σ : hc_St) : Option Int32 := if x0 = 256 then (some 0) else if x0 = 261 then (some 1) else if x0 = 320 then (some 2) else if x0 = 321 then (some ((((3 + x0)) - 321))) else if x0 = 322 then (some ((((3 + x0)) - 321))) else if x0 = 323 then (some ((((3 + x0)) - 321))) else if x0 = 384 then (some 6) else if x0 = 1472 then (some 7) else if x0 = 1473 then (some 8) else (some ((-1)))
set_option maxRecDepth 20000 in
set_option maxHeartbeats 4000000 in
theorem okX18_place (l : Launch) (E : hc_E) (A : Nat → Prop) (d : Nat)  (hD : 1 ≤ d) {x0 : Int32} {σ : hc_St} {r : Int32} (h : fm_X18_place  x0 σ = some r) (am : Nat → Nat → Nat) : hc_M l hc_V0 yX18_place (ws_ yX18_place cX18_place 1 (some .int)) d E A [.int x0] am [] σ (.inl (some (.int r))) σ := by
  have hd1 : 1 ≤ d := by omega
  refine hc_enter2 (own := RX18) [(0, .int x0)] pl_X18 rfl hc_V0_st hc_G0_nd rfl (Nat.le_of_ble_eq_true rfl) (fun X hC hem => ?_)
  unfold fm_X18_place at h
  refine hr_iload_n hC dX18_place_0 rfl ?_
  by_cases c1 : x0 = 256
  · rw [if_pos c1] at h
    refine hr_lookup hC 84 dX18_place_1 (by decide) (by rw [c1] <;> rfl) (by decide) ?_
    refine hr_iconst (v := 0) hC dX18_place_84 rfl ?_
    obtain rfl := Option.some.inj h
    exact hr_iret hC dX18_place_85
  rw [if_neg c1] at h
  by_cases c2 : x0 = 261
  · rw [if_pos c2] at h
    refine hr_lookup hC 86 dX18_place_1 (by decide) (by rw [c2] <;> rfl) (by decide) ?_
    refine hr_iconst (v := 1) hC dX18_place_86 rfl ?_
    obtain rfl := Option.some.inj h
    exact hr_iret hC dX18_place_87
  rw [if_neg c2] at h
  by_cases c3 : x0 = 320
  · rw [if_pos c3] at h
    refine hr_lookup hC 88 dX18_place_1 (by decide) (by rw [c3] <;> rfl) (by decide) ?_
    refine hr_iconst (v := 2) hC dX18_place_88 rfl ?_
    obtain rfl := Option.some.inj h
    exact hr_iret hC dX18_place_89
  rw [if_neg c3] at h
  by_cases c4 : x0 = 321
  · rw [if_pos c4] at h
    refine hr_lookup hC 90 dX18_place_1 (by decide) (by rw [c4] <;> rfl) (by decide) ?_
    refine hr_iconst (v := 3) hC dX18_place_90 rfl ?_
    refine hr_iload_n hC dX18_place_91 rfl ?_
    refine hr_iadd hC dX18_place_92 ?_
    refine hr_sipush (v := 321) hC dX18_place_93 rfl ?_
    refine hr_isub hC dX18_place_96 ?_
    obtain rfl := Option.some.inj h
    exact hr_iret hC dX18_place_97
  rw [if_neg c4] at h
  by_cases c5 : x0 = 322
  · rw [if_pos c5] at h
    refine hr_lookup hC 90 dX18_place_1 (by decide) (by rw [c5] <;> rfl) (by decide) ?_
    refine hr_iconst (v := 3) hC dX18_place_90 rfl ?_
    refine hr_iload_n hC dX18_place_91 rfl ?_
    refine hr_iadd hC dX18_place_92 ?_
    refine hr_sipush (v := 321) hC dX18_place_93 rfl ?_
    refine hr_isub hC dX18_place_96 ?_
    obtain rfl := Option.some.inj h
    exact hr_iret hC dX18_place_97
  rw [if_neg c5] at h
  by_cases c6 : x0 = 323
  · rw [if_pos c6] at h
    refine hr_lookup hC 90 dX18_place_1 (by decide) (by rw [c6] <;> rfl) (by decide) ?_
    refine hr_iconst (v := 3) hC dX18_place_90 rfl ?_
    refine hr_iload_n hC dX18_place_91 rfl ?_
    refine hr_iadd hC dX18_place_92 ?_
    refine hr_sipush (v := 321) hC dX18_place_93 rfl ?_
    refine hr_isub hC dX18_place_96 ?_
    obtain rfl := Option.some.inj h
    exact hr_iret hC dX18_place_97
  rw [if_neg c6] at h
  by_cases c7 : x0 = 384
  · rw [if_pos c7] at h
    refine hr_lookup hC 98 dX18_place_1 (by decide) (by rw [c7] <;> rfl) (by decide) ?_
    refine hr_bipush (v := 6) hC dX18_place_98 rfl ?_
    obtain rfl := Option.some.inj h
    exact hr_iret hC dX18_place_100
  rw [if_neg c7] at h
  by_cases c8 : x0 = 1472
  · rw [if_pos c8] at h
    refine hr_lookup hC 101 dX18_place_1 (by decide) (by rw [c8] <;> rfl) (by decide) ?_
    refine hr_bipush (v := 7) hC dX18_place_101 rfl ?_
    obtain rfl := Option.some.inj h
    exact hr_iret hC dX18_place_103
  rw [if_neg c8] at h
  by_cases c9 : x0 = 1473
  · rw [if_pos c9] at h
    refine hr_lookup hC 104 dX18_place_1 (by decide) (by rw [c9] <;> rfl) (by decide) ?_
    refine hr_bipush (v := 8) hC dX18_place_104 rfl ?_
    obtain rfl := Option.some.inj h
    exact hr_iret hC dX18_place_106
  rw [if_neg c9] at h
  refine hr_lookup hC 107 dX18_place_1 (by decide) (hc_lkD (hc_l1 (hc_ne c1 rfl) (hc_l1 (hc_ne c2 rfl) (hc_l1 (hc_ne c3 rfl) (hc_l1 (hc_ne c4 rfl) (hc_l1 (hc_ne c5 rfl) (hc_l1 (hc_ne c6 rfl) (hc_l1 (hc_ne c7 rfl) (hc_l1 (hc_ne c8 rfl) (hc_l1 (hc_ne c9 rfl) hc_l0)))))))))) (by decide) ?_
  refine hr_iconst (v := (-1)) hC dX18_place_107 rfl ?_
  obtain rfl := Option.some.inj h
  exact hr_iret hC dX18_place_108
/-- HomeCompiler$Controls.get(I)I -/
def fm_X18_get  (x1 : Int32) (σ : hc_St) : Option Int32 := hk (inb x1 (gL σ 19 0)) <| some ((gC σ 19 0 x1))
set_option maxRecDepth 20000 in
set_option maxHeartbeats 4000000 in
theorem okX18_get (l : Launch) (E : hc_E) (A : Nat → Prop) (d : Nat)  (hD : 1 ≤ d) {x1 : Int32} {σ : hc_St} {r : Int32} (h : fm_X18_get  x1 σ = some r) (am : Nat → Nat → Nat) : hc_M l hc_V0 yX18_get (ws_ yX18_get cX18_get 2 (some .int)) d E A [.ref (E.2.1 19), .int x1] am [] σ (.inl (some (.int r))) σ := by
  have hd1 : 1 ≤ d := by omega
  refine hc_enter2 (own := RX18) [(0, .ref (E.2.1 19)), (1, .int x1)] pl_X18 rfl hc_V0_st hc_G0_nd rfl (Nat.le_of_ble_eq_true rfl) (fun X hC hem => ?_)
  unfold fm_X18_get at h
  refine hr_aload_n hC dX18_get_0 rfl ?_
  refine hr_gA hC F19_0 rfl dX18_get_1 q888 ?_
  refine hr_iload_n hC dX18_get_4 rfl ?_
  obtain ⟨c1, h⟩ := hk_ok h
  refine hs_iald hC A19_0 c1 dX18_get_5 ?_
  obtain rfl := Option.some.inj h
  exact hr_iret hC dX18_get_6
/-- HomeCompiler$Hart.set(II)V -/
def fm_X19_set  (x1 : Int32) (x2 : Int32) (σ : hc_St) : Option hc_St := hl (α := Int32) ((if x1 = 0 then 0 else x2)) fun v3 => hk (inb x1 (gL σ 20 3)) <| hl (pC σ 20 3 x1 v3) fun σ5 => some σ5
set_option maxRecDepth 20000 in
set_option maxHeartbeats 4000000 in
theorem okX19_set (l : Launch) (E : hc_E) (A : Nat → Prop) (d : Nat)  (hD : 1 ≤ d) {x1 : Int32} {x2 : Int32} {σ : hc_St} {r : hc_St} (h : fm_X19_set  x1 x2 σ = some r) (am : Nat → Nat → Nat) : hc_M l hc_V0 yX19_set (ws_ yX19_set cX19_set 3 none) d E A [.ref (E.2.1 20), .int x1, .int x2] am [] σ (.inl none) r := by
  have hd1 : 1 ≤ d := by omega
  refine hc_enter2 (own := RX19) [(0, .ref (E.2.1 20)), (1, .int x1), (2, .int x2)] pl_X19 rfl hc_V0_st hc_G0_nd rfl (Nat.le_of_ble_eq_true rfl) (fun X hC hem => ?_)
  unfold fm_X19_set at h
  refine hr_aload_n hC dX19_set_0 rfl ?_
  refine hr_gA hC F20_3 rfl dX19_set_1 q923 ?_
  refine hr_iload_n hC dX19_set_4 rfl ?_
  refine hr_iload_n hC dX19_set_5 rfl ?_
  obtain ⟨v3, hv3, h⟩ := hl_ok h
  have J6 : ∀ w7 : Int32, (if x1 = 0 then 0 else x2) = w7 → hc_At hc_V0 E 3 X 14 [] [.int w7, .int x1, .ref (am 20 3)] σ am [] := by
    intro w7 hw7
    obtain rfl := hv3.trans hw7
    obtain ⟨c4, h⟩ := hk_ok h
    obtain ⟨σ5, hσ5, h⟩ := hl_ok h
    refine hs_iast hC A20_3 c4 dX19_set_14 ?_
    rw [← hσ5]
    obtain rfl := Option.some.inj h
    exact hr_vret hC dX19_set_15
  refine hr_if_ne (x := _) hC 13 dX19_set_6 (by decide) (fun c8 => ?_) (fun c8 => ?_)
  · refine hr_iload_n hC dX19_set_13 rfl ?_
    exact hr_sub _ rfl (J6 _ (by first | (rw [if_neg c8]; done) | (simp only [if_neg c8]; done) | rfl))
  · refine hr_iconst (v := 0) hC dX19_set_9 rfl ?_
    refine hr_goto hC 14 dX19_set_10 (by decide) ?_
    exact hr_sub _ rfl (J6 _ (by first | (rw [if_pos c8]; done) | (simp only [if_pos c8]; done) | rfl))
/-- HomeCompiler$Hart.control(IIII)I -/
def fm_X19_control  (x1 : Int32) (x2 : Int32) (x3 : Int32) (x4 : Int32) (σ : hc_St) : Option (Int32 × hc_St) := Option.bind (fm_X18_place ((jush x2 20)) σ) fun r1 => if 0 ≤ r1 then (hl (α := Int32) ((if x1 ≤ 4 then x4 else (((jshr x2 15)) &&& 31))) fun v9 => Option.bind (fm_X18_get r1 σ) fun r10 => Option.bind (α := hc_St) (if (x1 &&& 3) = 1 then (Option.bind (fm_X18_set r1 v9 σ) fun r32 => some (r32)) else (if (((jshr x2 15)) &&& 31) = 0 then (some (σ)) else (hl (α := Int32) ((if (x1 &&& 3) = 2 then (r10 ||| v9) else (r10 &&& ((v9 ^^^ ((-1))))))) fun v24 => Option.bind (fm_X18_set r1 v24 σ) fun r25 => some (r25)))) fun r16 => Option.bind (fm_X19_set x3 r10 r16) fun r36 => some (0, r36)) else (Option.bind (fm_X19_trap 2 x2 σ) fun r43 => some (r43.1, r43.2))
set_option maxRecDepth 20000 in
set_option maxHeartbeats 4000000 in
theorem okX19_control (l : Launch) (E : hc_E) (A : Nat → Prop) (d : Nat)  (hD : 4 ≤ d) {x1 : Int32} {x2 : Int32} {x3 : Int32} {x4 : Int32} {σ : hc_St} {r : (Int32 × hc_St)} (h : fm_X19_control  x1 x2 x3 x4 σ = some r) (am : Nat → Nat → Nat) : hc_M l hc_V0 yX19_control (ws_ yX19_control cX19_control 9 (some .int)) d E A [.ref (E.2.1 20), .int x1, .int x2, .int x3, .int x4] am [] σ (.inl (some (.int r.1))) r.2 := by
  have hd1 : 1 ≤ d := by omega
  refine hc_enter2 (own := RX19) [(0, .ref (E.2.1 20)), (1, .int x1), (2, .int x2), (3, .int x3), (4, .int x4)] pl_X19 rfl hc_V0_st hc_G0_nd rfl (Nat.le_of_ble_eq_true rfl) (fun X hC hem => ?_)
  unfold fm_X19_control at h
  refine hr_iload_n hC dX19_control_0 rfl ?_
  refine hr_bipush (v := 20) hC dX19_control_1 rfl ?_
  refine hr_iushr hC dX19_control_3 ?_
  obtain ⟨r1, e2, h⟩ := hx_bind h
  refine hs_callS0 hC [_] _ dX19_control_4 q2604 q2605 q332 q2606 np_X18 rfl pd_X18_place (Nat.le_of_ble_eq_true rfl) hd1 (okX18_place l E A (d - 1)  (by omega)  e2 am) rfl ?_
  refine hr_istore hC dX19_control_7 (by decide) ?_
  refine hr_iload hC dX19_control_9 rfl ?_
  refine hr_if_ge (x := _) hC 21 dX19_control_11 (by decide) (fun c6 => ?_) (fun c6 => ?_)
  · rw [if_pos c6] at h
    refine hr_iload_n hC dX19_control_21 rfl ?_
    refine hr_bipush (v := 15) hC dX19_control_22 rfl ?_
    refine hr_ishr hC dX19_control_24 ?_
    refine hr_bipush (v := 31) hC dX19_control_25 rfl ?_
    refine hr_iand hC dX19_control_27 ?_
    refine hr_istore hC dX19_control_28 (by decide) ?_
    refine hr_iload_n hC dX19_control_30 rfl ?_
    refine hr_iconst (v := 4) hC dX19_control_31 rfl ?_
    obtain ⟨v9, hv9, h⟩ := hl_ok h
    have J40 : ∀ w41 : Int32, (if x1 ≤ 4 then x4 else (((jshr x2 15)) &&& 31)) = w41 → hc_At hc_V0 E 9 X 42 [(0, .ref (E.2.1 20)), (1, .int x1), (3, .int x3), (5, .int r1), (6, .int (((jshr x2 15)) &&& 31))] [.int w41] σ am [] := by
      intro w41 hw41
      obtain rfl := hv9.trans hw41
      refine hr_istore hC dX19_control_42 (by decide) ?_
      refine hr_aload_n hC dX19_control_44 rfl ?_
      refine hr_gO 19 hC F20_1 rfl dX19_control_45 q921 ?_
      refine hr_iload hC dX19_control_48 rfl ?_
      obtain ⟨r10, e11, h⟩ := hx_bind h
      refine hs_callV0 hC 19 [_] _ dX19_control_50 q2607 q2608 q2609 q332 q2610 np_X18 rfl OB_19 pd_X18_get (Nat.le_of_ble_eq_true rfl) hd1 (okX18_get l E A (d - 1)  (by omega)  e11 am) rfl ?_
      refine hr_istore hC dX19_control_53 (by decide) ?_
      refine hr_iload_n hC dX19_control_55 rfl ?_
      refine hr_iconst (v := 3) hC dX19_control_56 rfl ?_
      refine hr_iand hC dX19_control_57 ?_
      refine hr_iconst (v := 1) hC dX19_control_58 rfl ?_
      obtain ⟨r16, e17, h⟩ := hx_bind h
      have J18 : hc_At hc_V0 E 9 X 112 [(0, .ref (E.2.1 20)), (3, .int x3), (8, .int r10)] [] r16 am [] := by
        refine hr_aload_n hC dX19_control_112 rfl ?_
        refine hr_iload_n hC dX19_control_113 rfl ?_
        refine hr_iload hC dX19_control_114 rfl ?_
        obtain ⟨r36, e37, h⟩ := hx_bind h
        refine hs_callV0 hC 20 [_, _] _ dX19_control_116 q2612 q2614 qs164 q333 q2615 np_X19 rfl OB_20 pd_X19_set (Nat.le_of_ble_eq_true rfl) hd1 (okX19_set l E A (d - 1)  (by omega)  e37 am) rfl ?_
        refine hr_iconst (v := 0) hC dX19_control_119 rfl ?_
        obtain rfl := Option.some.inj h
        exact hr_iret hC dX19_control_120
      clear h
      have h := e17
      refine hr_icmp_ne (x := _) hC 76 dX19_control_59 (by decide) (fun c15 => ?_) (fun c15 => ?_)
      · rw [if_neg c15] at h
        refine hr_iload hC dX19_control_76 rfl ?_
        refine hr_if_eq (x := _) hC 112 dX19_control_78 (by decide) (fun c21 => ?_) (fun c21 => ?_)
        · rw [if_pos c21] at h
          obtain rfl := Option.some.inj h
          exact hr_sub _ rfl (J18)
        · rw [if_neg c21] at h
          refine hr_aload_n hC dX19_control_81 rfl ?_
          refine hr_gO 19 hC F20_1 rfl dX19_control_82 q921 ?_
          refine hr_iload hC dX19_control_85 rfl ?_
          refine hr_iload_n hC dX19_control_87 rfl ?_
          refine hr_iconst (v := 3) hC dX19_control_88 rfl ?_
          refine hr_iand hC dX19_control_89 ?_
          refine hr_iconst (v := 2) hC dX19_control_90 rfl ?_
          obtain ⟨v24, hv24, h⟩ := hl_ok h
          have J29 : ∀ w30 : Int32, (if (x1 &&& 3) = 2 then (r10 ||| v9) else (r10 &&& ((v9 ^^^ ((-1)))))) = w30 → hc_At hc_V0 E 9 X 109 [(0, .ref (E.2.1 20)), (3, .int x3), (8, .int r10)] [.int w30, .int r1, .ref (E.2.1 19)] σ am [] := by
            intro w30 hw30
            obtain rfl := hv24.trans hw30
            obtain ⟨r25, e26, h⟩ := hx_bind h
            refine hs_callV0 hC 19 [_, _] _ dX19_control_109 q2611 q2502 q2503 q332 q2504 np_X18 rfl OB_19 pd_X18_set (Nat.le_of_ble_eq_true rfl) hd1 (okX18_set l E A (d - 1)  (by omega)  e26 am) rfl ?_
            obtain rfl := Option.some.inj h
            exact hr_sub _ rfl (J18)
          refine hr_icmp_ne (x := _) hC 102 dX19_control_91 (by decide) (fun c31 => ?_) (fun c31 => ?_)
          · refine hr_iload hC dX19_control_102 rfl ?_
            refine hr_iload hC dX19_control_104 rfl ?_
            refine hr_iconst (v := (-1)) hC dX19_control_106 rfl ?_
            refine hr_ixor hC dX19_control_107 ?_
            refine hr_iand hC dX19_control_108 ?_
            exact hr_sub _ rfl (J29 _ (by first | (rw [if_neg c31]; done) | (simp only [if_neg c31]; done) | rfl))
          · refine hr_iload hC dX19_control_94 rfl ?_
            refine hr_iload hC dX19_control_96 rfl ?_
            refine hr_ior hC dX19_control_98 ?_
            refine hr_goto hC 109 dX19_control_99 (by decide) ?_
            exact hr_sub _ rfl (J29 _ (by first | (rw [if_pos c31]; done) | (simp only [if_pos c31]; done) | rfl))
      · rw [if_pos c15] at h
        refine hr_aload_n hC dX19_control_62 rfl ?_
        refine hr_gO 19 hC F20_1 rfl dX19_control_63 q921 ?_
        refine hr_iload hC dX19_control_66 rfl ?_
        refine hr_iload hC dX19_control_68 rfl ?_
        obtain ⟨r32, e33, h⟩ := hx_bind h
        refine hs_callV0 hC 19 [_, _] _ dX19_control_70 q2611 q2502 q2503 q332 q2504 np_X18 rfl OB_19 pd_X18_set (Nat.le_of_ble_eq_true rfl) hd1 (okX18_set l E A (d - 1)  (by omega)  e33 am) rfl ?_
        refine hr_goto hC 112 dX19_control_73 (by decide) ?_
        obtain rfl := Option.some.inj h
        exact hr_sub _ rfl (J18)
    refine hr_icmp_le (x := _) hC 40 dX19_control_32 (by decide) (fun c42 => ?_) (fun c42 => ?_)
    · refine hr_iload hC dX19_control_40 rfl ?_
      exact hr_sub _ rfl (J40 _ (by first | (rw [if_pos c42]; done) | (simp only [if_pos c42]; done) | rfl))
    · refine hr_iload hC dX19_control_35 rfl ?_
      refine hr_goto hC 42 dX19_control_37 (by decide) ?_
      exact hr_sub _ rfl (J40 _ (by first | (rw [if_neg c42]; done) | (simp only [if_neg c42]; done) | rfl))
  · rw [if_neg c6] at h
    refine hr_aload_n hC dX19_control_14 rfl ?_
    refine hr_iconst (v := 2) hC dX19_control_15 rfl ?_
    refine hr_iload_n hC dX19_control_16 rfl ?_
    obtain ⟨r43, e44, h⟩ := hx_bind h
    refine hs_callV0 hC 20 [_, _] _ dX19_control_17 q2493 q2495 qs157 q333 q2496 np_X19 rfl OB_20 pd_X19_trap (Nat.le_of_ble_eq_true rfl) hd1 (okX19_trap l E A (d - 1)  (by omega)  e44 am) rfl ?_
    obtain rfl := Option.some.inj h
    exact hr_iret hC dX19_control_20
/-- HomeCompiler$Hart.special(IIII)I -/
def fm_X19_special  (x1 : Int32) (x2 : Int32) (x3 : Int32) (x4 : Int32) (σ : hc_St) : Option (Int32 × hc_St) := if x1 = 72 then (some (0, σ)) else (if x1 = 73 then (Option.bind (α := hc_St × Int32) (if (gI σ 20 5) = 0 then (Option.bind (fm_X19_trap 8 0 σ) fun r51 => some (r51.2, r51.1)) else (some (σ, 2))) fun r47 => some (r47.2, r47.1)) else (if x1 = 74 then (Option.bind (fm_X19_trap 3 ((gI σ 20 4)) σ) fun r41 => some (r41.1, r41.2)) else (if x1 = 1 then (Option.bind (fm_X19_trap 2 x2 σ) fun r9 => some (r9.1, r9.2)) else (if (gI σ 20 5) = 0 then (Option.bind (fm_X19_trap 2 x2 σ) fun r37 => some (r37.1, r37.2)) else (if x1 = 75 then (Option.bind (fm_X18_back  σ) fun r27 => hl (pI r27.2 20 5 r27.1) fun σ31 => Option.bind (fm_X18_returns  σ31) fun r32 => hl (pI σ31 20 6 r32) fun σ36 => some (0, σ36)) else (Option.bind (α := hc_St × Int32) (if x1 = 76 then (some (σ, 0)) else (Option.bind (fm_X19_control ((x1 - 80)) x2 x3 x4 σ) fun r23 => some (r23.2, r23.1))) fun r19 => some (r19.2, r19.1)))))))
set_option maxRecDepth 20000 in
set_option maxHeartbeats 4000000 in
theorem okX19_special (l : Launch) (E : hc_E) (A : Nat → Prop) (d : Nat)  (hD : 5 ≤ d) {x1 : Int32} {x2 : Int32} {x3 : Int32} {x4 : Int32} {σ : hc_St} {r : (Int32 × hc_St)} (h : fm_X19_special  x1 x2 x3 x4 σ = some r) (am : Nat → Nat → Nat) : hc_M l hc_V0 yX19_special (ws_ yX19_special cX19_special 5 (some .int)) d E A [.ref (E.2.1 20), .int x1, .int x2, .int x3, .int x4] am [] σ (.inl (some (.int r.1))) r.2 := by
  have hd1 : 1 ≤ d := by omega
  refine hc_enter2 (own := RX19) [(0, .ref (E.2.1 20)), (1, .int x1), (2, .int x2), (3, .int x3), (4, .int x4)] pl_X19 rfl hc_V0_st hc_G0_nd rfl (Nat.le_of_ble_eq_true rfl) (fun X hC hem => ?_)
  unfold fm_X19_special at h
  refine hr_iload_n hC dX19_special_0 rfl ?_
  refine hr_bipush (v := 72) hC dX19_special_1 rfl ?_
  refine hr_icmp_ne (x := _) hC 8 dX19_special_3 (by decide) (fun c2 => ?_) (fun c2 => ?_)
  · rw [if_neg c2] at h
    refine hr_iload_n hC dX19_special_8 rfl ?_
    refine hr_bipush (v := 73) hC dX19_special_9 rfl ?_
    refine hr_icmp_ne (x := _) hC 33 dX19_special_11 (by decide) (fun c4 => ?_) (fun c4 => ?_)
    · rw [if_neg c4] at h
      refine hr_iload_n hC dX19_special_33 rfl ?_
      refine hr_bipush (v := 74) hC dX19_special_34 rfl ?_
      refine hr_icmp_ne (x := _) hC 49 dX19_special_36 (by decide) (fun c6 => ?_) (fun c6 => ?_)
      · rw [if_neg c6] at h
        refine hr_iload_n hC dX19_special_49 rfl ?_
        refine hr_iconst (v := 1) hC dX19_special_50 rfl ?_
        refine hr_icmp_eq (x := _) hC 61 dX19_special_51 (by decide) (fun c8 => ?_) (fun c8 => ?_)
        · rw [if_pos c8] at h
          refine hr_aload_n hC dX19_special_61 rfl ?_
          refine hr_iconst (v := 2) hC dX19_special_62 rfl ?_
          refine hr_iload_n hC dX19_special_63 rfl ?_
          obtain ⟨r9, e10, h⟩ := hx_bind h
          refine hs_callV0 hC 20 [_, _] _ dX19_special_64 q2493 q2495 qs157 q333 q2496 np_X19 rfl OB_20 pd_X19_trap (Nat.le_of_ble_eq_true rfl) hd1 (okX19_trap l E A (d - 1)  (by omega)  e10 am) rfl ?_
          obtain rfl := Option.some.inj h
          exact hr_iret hC dX19_special_67
        · rw [if_neg c8] at h
          refine hr_aload_n hC dX19_special_54 rfl ?_
          refine hr_gI hC F20_5 dX19_special_55 q928 ?_
          refine hr_if_ne (x := _) hC 68 dX19_special_58 (by decide) (fun c14 => ?_) (fun c14 => ?_)
          · rw [if_neg c14] at h
            refine hr_iload_n hC dX19_special_68 rfl ?_
            refine hr_bipush (v := 75) hC dX19_special_69 rfl ?_
            refine hr_icmp_ne (x := _) hC 98 dX19_special_71 (by decide) (fun c16 => ?_) (fun c16 => ?_)
            · rw [if_neg c16] at h
              refine hr_iload_n hC dX19_special_98 rfl ?_
              refine hr_bipush (v := 76) hC dX19_special_99 rfl ?_
              obtain ⟨r19, e20, h⟩ := hx_bind h
              have J21 : hc_At hc_V0 E 5 X 120 [] [.int r19.2] r19.1 am [] := by
                obtain rfl := Option.some.inj h
                exact hr_iret hC dX19_special_120
              clear h
              have h := e20
              refine hr_icmp_ne (x := _) hC 108 dX19_special_101 (by decide) (fun c18 => ?_) (fun c18 => ?_)
              · rw [if_neg c18] at h
                refine hr_aload_n hC dX19_special_108 rfl ?_
                refine hr_iload_n hC dX19_special_109 rfl ?_
                refine hr_bipush (v := 80) hC dX19_special_110 rfl ?_
                refine hr_isub hC dX19_special_112 ?_
                refine hr_iload_n hC dX19_special_113 rfl ?_
                refine hr_iload_n hC dX19_special_114 rfl ?_
                refine hr_iload hC dX19_special_115 rfl ?_
                obtain ⟨r23, e24, h⟩ := hx_bind h
                refine hs_callV0 hC 20 [_, _, _, _] _ dX19_special_117 q2600 q2602 qs163 q333 q2603 np_X19 rfl OB_20 pd_X19_control (Nat.le_of_ble_eq_true rfl) hd1 (okX19_control l E A (d - 1)  (by omega)  e24 am) rfl ?_
                obtain rfl := Option.some.inj h
                exact hr_sub _ rfl (J21)
              · rw [if_pos c18] at h
                refine hr_iconst (v := 0) hC dX19_special_104 rfl ?_
                refine hr_goto hC 120 dX19_special_105 (by decide) ?_
                obtain rfl := Option.some.inj h
                exact hr_sub _ rfl (J21)
            · rw [if_pos c16] at h
              refine hr_aload_n hC dX19_special_74 rfl ?_
              refine hr_aload_n hC dX19_special_75 rfl ?_
              refine hr_gO 19 hC F20_1 rfl dX19_special_76 q921 ?_
              obtain ⟨r27, e28, h⟩ := hx_bind h
              refine hs_callV0 hC 19 [] _ dX19_special_79 q2592 q2593 q2594 q332 q2595 np_X18 rfl OB_19 pd_X18_back (Nat.le_of_ble_eq_true rfl) hd1 (okX18_back l E A (d - 1)  (by omega)  e28 am) rfl ?_
              obtain ⟨σ31, hσ31, h⟩ := hl_ok h
              refine hr_pI hC F20_5 PX19_5 dX19_special_82 q928 ?_
              rw [← hσ31]
              refine hr_aload_n hC dX19_special_85 rfl ?_
              refine hr_aload_n hC dX19_special_86 rfl ?_
              refine hr_gO 19 hC F20_1 rfl dX19_special_87 q921 ?_
              obtain ⟨r32, e33, h⟩ := hx_bind h
              refine hs_callV0 hC 19 [] _ dX19_special_90 q2596 q2597 q2598 q332 q2599 np_X18 rfl OB_19 pd_X18_returns (Nat.le_of_ble_eq_true rfl) hd1 (okX18_returns l E A (d - 1)  (by omega)  e33 am) rfl ?_
              obtain ⟨σ36, hσ36, h⟩ := hl_ok h
              refine hr_pI hC F20_6 PX19_6 dX19_special_93 q930 ?_
              rw [← hσ36]
              refine hr_iconst (v := 0) hC dX19_special_96 rfl ?_
              obtain rfl := Option.some.inj h
              exact hr_iret hC dX19_special_97
          · rw [if_pos c14] at h
            refine hr_aload_n hC dX19_special_61 rfl ?_
            refine hr_iconst (v := 2) hC dX19_special_62 rfl ?_
            refine hr_iload_n hC dX19_special_63 rfl ?_
            obtain ⟨r37, e38, h⟩ := hx_bind h
            refine hs_callV0 hC 20 [_, _] _ dX19_special_64 q2493 q2495 qs157 q333 q2496 np_X19 rfl OB_20 pd_X19_trap (Nat.le_of_ble_eq_true rfl) hd1 (okX19_trap l E A (d - 1)  (by omega)  e38 am) rfl ?_
            obtain rfl := Option.some.inj h
            exact hr_iret hC dX19_special_67
      · rw [if_pos c6] at h
        refine hr_aload_n hC dX19_special_39 rfl ?_
        refine hr_iconst (v := 3) hC dX19_special_40 rfl ?_
        refine hr_aload_n hC dX19_special_41 rfl ?_
        refine hr_gI hC F20_4 dX19_special_42 q927 ?_
        obtain ⟨r41, e42, h⟩ := hx_bind h
        refine hs_callV0 hC 20 [_, _] _ dX19_special_45 q2493 q2495 qs157 q333 q2496 np_X19 rfl OB_20 pd_X19_trap (Nat.le_of_ble_eq_true rfl) hd1 (okX19_trap l E A (d - 1)  (by omega)  e42 am) rfl ?_
        obtain rfl := Option.some.inj h
        exact hr_iret hC dX19_special_48
    · rw [if_pos c4] at h
      refine hr_aload_n hC dX19_special_14 rfl ?_
      refine hr_gI hC F20_5 dX19_special_15 q928 ?_
      obtain ⟨r47, e48, h⟩ := hx_bind h
      have J49 : hc_At hc_V0 E 5 X 32 [] [.int r47.2] r47.1 am [] := by
        obtain rfl := Option.some.inj h
        exact hr_iret hC dX19_special_32
      clear h
      have h := e48
      refine hr_if_ne (x := _) hC 31 dX19_special_18 (by decide) (fun c46 => ?_) (fun c46 => ?_)
      · rw [if_neg c46] at h
        refine hr_iconst (v := 2) hC dX19_special_31 rfl ?_
        obtain rfl := Option.some.inj h
        exact hr_sub _ rfl (J49)
      · rw [if_pos c46] at h
        refine hr_aload_n hC dX19_special_21 rfl ?_
        refine hr_bipush (v := 8) hC dX19_special_22 rfl ?_
        refine hr_iconst (v := 0) hC dX19_special_24 rfl ?_
        obtain ⟨r51, e52, h⟩ := hx_bind h
        refine hs_callV0 hC 20 [_, _] _ dX19_special_25 q2493 q2495 qs157 q333 q2496 np_X19 rfl OB_20 pd_X19_trap (Nat.le_of_ble_eq_true rfl) hd1 (okX19_trap l E A (d - 1)  (by omega)  e52 am) rfl ?_
        refine hr_goto hC 32 dX19_special_28 (by decide) ?_
        obtain rfl := Option.some.inj h
        exact hr_sub _ rfl (J49)
  · rw [if_pos c2] at h
    refine hr_iconst (v := 0) hC dX19_special_6 rfl ?_
    obtain rfl := Option.some.inj h
    exact hr_iret hC dX19_special_7
/-- HomeCompiler$Hart.multiplied(III)I -/
def fm_X19_multiplied  (x0 : Int32) (x1 : Int32) (x2 : Int32) (σ : hc_St) : Option Int32 := if x0 = 0 then (some ((x1 * x2))) else if x0 = 1 then (some ((((jlshr ((((x1.toInt64)) * ((x2.toInt64)))) 32)).toInt32))) else if x0 = 2 then (some ((((jlshr ((((x1.toInt64)) * ((((x2.toInt64)) &&& 4294967295)))) 32)).toInt32))) else if x0 = 3 then (some ((((jlush ((((((x1.toInt64)) &&& 4294967295)) * ((((x2.toInt64)) &&& 4294967295)))) 32)).toInt32))) else if x0 = 4 then (Option.bind (α := Int32) (if x2 = 0 then (some ((-1))) else (hk (decide (¬ x2 = 0)) <| some ((x1 / x2)))) fun r10 => some r10) else if x0 = 5 then (Option.bind (α := Int32) (if x2 = 0 then (some ((-1))) else (hk (decide (¬ (((x2.toInt64)) &&& 4294967295) = 0)) <| some ((((((((x1.toInt64)) &&& 4294967295)) / ((((x2.toInt64)) &&& 4294967295)))).toInt32)))) fun r17 => some r17) else if x0 = 6 then (Option.bind (α := Int32) (if x2 = 0 then (some (x1)) else (hk (decide (¬ x2 = 0)) <| some ((jrem x1 x2)))) fun r24 => some r24) else (Option.bind (α := Int32) (if x2 = 0 then (some (x1)) else (hk (decide (¬ (((x2.toInt64)) &&& 4294967295) = 0)) <| some ((((jlrem ((((x1.toInt64)) &&& 4294967295)) ((((x2.toInt64)) &&& 4294967295)))).toInt32)))) fun r3 => some r3)
set_option maxRecDepth 20000 in
set_option maxHeartbeats 4000000 in
theorem okX19_multiplied (l : Launch) (E : hc_E) (A : Nat → Prop) (d : Nat)  (hD : 1 ≤ d) {x0 : Int32} {x1 : Int32} {x2 : Int32} {σ : hc_St} {r : Int32} (h : fm_X19_multiplied  x0 x1 x2 σ = some r) (am : Nat → Nat → Nat) : hc_M l hc_V0 yX19_multiplied (ws_ yX19_multiplied cX19_multiplied 7 (some .int)) d E A [.int x0, .int x1, .int x2] am [] σ (.inl (some (.int r))) σ := by
  have hd1 : 1 ≤ d := by omega
  refine hc_enter2 (own := RX19) [(0, .int x0), (1, .int x1), (2, .int x2)] pl_X19 rfl hc_V0_st hc_G0_nd rfl (Nat.le_of_ble_eq_true rfl) (fun X hC hem => ?_)
  unfold fm_X19_multiplied at h
  refine hr_iload_n hC dX19_multiplied_0 rfl ?_
  refine hr_i2l hC dX19_multiplied_1 ?_
  refine hr_ldc2 hC dX19_multiplied_2 q2619 ?_
  refine hr_land hC dX19_multiplied_5 ?_
  refine hr_lstore_n hC dX19_multiplied_6 (by decide) ?_
  refine hr_iload_n hC dX19_multiplied_7 rfl ?_
  refine hr_i2l hC dX19_multiplied_8 ?_
  refine hr_ldc2 hC dX19_multiplied_9 q2619 ?_
  refine hr_land hC dX19_multiplied_12 ?_
  refine hr_lstore hC dX19_multiplied_13 (by decide) ?_
  refine hr_iload_n hC dX19_multiplied_15 rfl ?_
  by_cases c29 : x0 = 0
  · rw [if_pos c29] at h
    refine hr_tableIn hC 60 dX19_multiplied_16 (by rw [c29] <;> decide) (by rw [c29] <;> decide) (by rw [c29] <;> rfl) (by decide) ?_
    refine hr_iload_n hC dX19_multiplied_60 rfl ?_
    refine hr_iload_n hC dX19_multiplied_61 rfl ?_
    refine hr_imul hC dX19_multiplied_62 ?_
    obtain rfl := Option.some.inj h
    exact hr_iret hC dX19_multiplied_63
  rw [if_neg c29] at h
  by_cases c30 : x0 = 1
  · rw [if_pos c30] at h
    refine hr_tableIn hC 64 dX19_multiplied_16 (by rw [c30] <;> decide) (by rw [c30] <;> decide) (by rw [c30] <;> rfl) (by decide) ?_
    refine hr_iload_n hC dX19_multiplied_64 rfl ?_
    refine hr_i2l hC dX19_multiplied_65 ?_
    refine hr_iload_n hC dX19_multiplied_66 rfl ?_
    refine hr_i2l hC dX19_multiplied_67 ?_
    refine hr_lmul hC dX19_multiplied_68 ?_
    refine hr_bipush (v := 32) hC dX19_multiplied_69 rfl ?_
    refine hr_lshr hC dX19_multiplied_71 ?_
    refine hr_l2i hC dX19_multiplied_72 ?_
    obtain rfl := Option.some.inj h
    exact hr_iret hC dX19_multiplied_73
  rw [if_neg c30] at h
  by_cases c31 : x0 = 2
  · rw [if_pos c31] at h
    refine hr_tableIn hC 74 dX19_multiplied_16 (by rw [c31] <;> decide) (by rw [c31] <;> decide) (by rw [c31] <;> rfl) (by decide) ?_
    refine hr_iload_n hC dX19_multiplied_74 rfl ?_
    refine hr_i2l hC dX19_multiplied_75 ?_
    refine hr_lload hC dX19_multiplied_76 rfl ?_
    refine hr_lmul hC dX19_multiplied_78 ?_
    refine hr_bipush (v := 32) hC dX19_multiplied_79 rfl ?_
    refine hr_lshr hC dX19_multiplied_81 ?_
    refine hr_l2i hC dX19_multiplied_82 ?_
    obtain rfl := Option.some.inj h
    exact hr_iret hC dX19_multiplied_83
  rw [if_neg c31] at h
  by_cases c32 : x0 = 3
  · rw [if_pos c32] at h
    refine hr_tableIn hC 84 dX19_multiplied_16 (by rw [c32] <;> decide) (by rw [c32] <;> decide) (by rw [c32] <;> rfl) (by decide) ?_
    refine hr_lload_n hC dX19_multiplied_84 rfl ?_
    refine hr_lload hC dX19_multiplied_85 rfl ?_
    refine hr_lmul hC dX19_multiplied_87 ?_
    refine hr_bipush (v := 32) hC dX19_multiplied_88 rfl ?_
    refine hr_lushr hC dX19_multiplied_90 ?_
    refine hr_l2i hC dX19_multiplied_91 ?_
    obtain rfl := Option.some.inj h
    exact hr_iret hC dX19_multiplied_92
  rw [if_neg c32] at h
  by_cases c33 : x0 = 4
  · rw [if_pos c33] at h
    refine hr_tableIn hC 93 dX19_multiplied_16 (by rw [c33] <;> decide) (by rw [c33] <;> decide) (by rw [c33] <;> rfl) (by decide) ?_
    refine hr_iload_n hC dX19_multiplied_93 rfl ?_
    obtain ⟨r10, e11, h⟩ := hx_bind h
    have J12 : hc_At hc_V0 E 7 X 104 [] [.int r10] σ am [] := by
      obtain rfl := Option.some.inj h
      exact hr_iret hC dX19_multiplied_104
    clear h
    have h := e11
    refine hr_if_ne (x := _) hC 101 dX19_multiplied_94 (by decide) (fun c9 => ?_) (fun c9 => ?_)
    · rw [if_neg c9] at h
      refine hr_iload_n hC dX19_multiplied_101 rfl ?_
      refine hr_iload_n hC dX19_multiplied_102 rfl ?_
      obtain ⟨c14, h⟩ := hk_ok h
      refine hr_idiv hC dX19_multiplied_103 (of_decide_eq_true c14) ?_
      obtain rfl := Option.some.inj h
      exact hr_sub _ rfl (J12)
    · rw [if_pos c9] at h
      refine hr_iconst (v := (-1)) hC dX19_multiplied_97 rfl ?_
      refine hr_goto hC 104 dX19_multiplied_98 (by decide) ?_
      obtain rfl := Option.some.inj h
      exact hr_sub _ rfl (J12)
  rw [if_neg c33] at h
  by_cases c34 : x0 = 5
  · rw [if_pos c34] at h
    refine hr_tableIn hC 105 dX19_multiplied_16 (by rw [c34] <;> decide) (by rw [c34] <;> decide) (by rw [c34] <;> rfl) (by decide) ?_
    refine hr_iload_n hC dX19_multiplied_105 rfl ?_
    obtain ⟨r17, e18, h⟩ := hx_bind h
    have J19 : hc_At hc_V0 E 7 X 118 [] [.int r17] σ am [] := by
      obtain rfl := Option.some.inj h
      exact hr_iret hC dX19_multiplied_118
    clear h
    have h := e18
    refine hr_if_ne (x := _) hC 113 dX19_multiplied_106 (by decide) (fun c16 => ?_) (fun c16 => ?_)
    · rw [if_neg c16] at h
      refine hr_lload_n hC dX19_multiplied_113 rfl ?_
      refine hr_lload hC dX19_multiplied_114 rfl ?_
      obtain ⟨c21, h⟩ := hk_ok h
      refine hr_ldiv hC dX19_multiplied_116 (of_decide_eq_true c21) ?_
      refine hr_l2i hC dX19_multiplied_117 ?_
      obtain rfl := Option.some.inj h
      exact hr_sub _ rfl (J19)
    · rw [if_pos c16] at h
      refine hr_iconst (v := (-1)) hC dX19_multiplied_109 rfl ?_
      refine hr_goto hC 118 dX19_multiplied_110 (by decide) ?_
      obtain rfl := Option.some.inj h
      exact hr_sub _ rfl (J19)
  rw [if_neg c34] at h
  by_cases c35 : x0 = 6
  · rw [if_pos c35] at h
    refine hr_tableIn hC 119 dX19_multiplied_16 (by rw [c35] <;> decide) (by rw [c35] <;> decide) (by rw [c35] <;> rfl) (by decide) ?_
    refine hr_iload_n hC dX19_multiplied_119 rfl ?_
    obtain ⟨r24, e25, h⟩ := hx_bind h
    have J26 : hc_At hc_V0 E 7 X 130 [] [.int r24] σ am [] := by
      obtain rfl := Option.some.inj h
      exact hr_iret hC dX19_multiplied_130
    clear h
    have h := e25
    refine hr_if_ne (x := _) hC 127 dX19_multiplied_120 (by decide) (fun c23 => ?_) (fun c23 => ?_)
    · rw [if_neg c23] at h
      refine hr_iload_n hC dX19_multiplied_127 rfl ?_
      refine hr_iload_n hC dX19_multiplied_128 rfl ?_
      obtain ⟨c28, h⟩ := hk_ok h
      refine hr_irem hC dX19_multiplied_129 (of_decide_eq_true c28) ?_
      obtain rfl := Option.some.inj h
      exact hr_sub _ rfl (J26)
    · rw [if_pos c23] at h
      refine hr_iload_n hC dX19_multiplied_123 rfl ?_
      refine hr_goto hC 130 dX19_multiplied_124 (by decide) ?_
      obtain rfl := Option.some.inj h
      exact hr_sub _ rfl (J26)
  rw [if_neg c35] at h
  refine hr_tableD hC 131 dX19_multiplied_16 (ks := [0, 1, 2, 3, 4, 5, 6]) (hc_l1 (hc_ne c29 rfl) (hc_l1 (hc_ne c30 rfl) (hc_l1 (hc_ne c31 rfl) (hc_l1 (hc_ne c32 rfl) (hc_l1 (hc_ne c33 rfl) (hc_l1 (hc_ne c34 rfl) (hc_l1 (hc_ne c35 rfl) hc_l0))))))) (by decide) (by decide) (by decide) ?_
  refine hr_iload_n hC dX19_multiplied_131 rfl ?_
  obtain ⟨r3, e4, h⟩ := hx_bind h
  have J5 : hc_At hc_V0 E 7 X 144 [] [.int r3] σ am [] := by
    obtain rfl := Option.some.inj h
    exact hr_iret hC dX19_multiplied_144
  clear h
  have h := e4
  refine hr_if_ne (x := _) hC 139 dX19_multiplied_132 (by decide) (fun c2 => ?_) (fun c2 => ?_)
  · rw [if_neg c2] at h
    refine hr_lload_n hC dX19_multiplied_139 rfl ?_
    refine hr_lload hC dX19_multiplied_140 rfl ?_
    obtain ⟨c7, h⟩ := hk_ok h
    refine hr_lrem hC dX19_multiplied_142 (of_decide_eq_true c7) ?_
    refine hr_l2i hC dX19_multiplied_143 ?_
    obtain rfl := Option.some.inj h
    exact hr_sub _ rfl (J5)
  · rw [if_pos c2] at h
    refine hr_iload_n hC dX19_multiplied_135 rfl ?_
    refine hr_goto hC 144 dX19_multiplied_136 (by decide) ?_
    obtain rfl := Option.some.inj h
    exact hr_sub _ rfl (J5)
/-- HomeCompiler$Hart.byF(III)I -/
def fm_X19_byF  (x0 : Int32) (x1 : Int32) (x2 : Int32) (σ : hc_St) : Option Int32 := if x0 = 0 then (some ((x1 + x2))) else if x0 = 1 then (some ((jshl x1 x2))) else if x0 = 2 then (hl (α := Int32) ((if x2 ≤ x1 then 0 else 1)) fun v3 => some v3) else if x0 = 3 then (hl (α := Int32) ((if (x2 + ((-2147483648))) ≤ (x1 + ((-2147483648))) then 0 else 1)) fun v9 => some v9) else if x0 = 4 then (some ((x1 ^^^ x2))) else if x0 = 5 then (some ((jush x1 x2))) else if x0 = 6 then (some ((x1 ||| x2))) else (some ((x1 &&& x2)))
set_option maxRecDepth 20000 in
set_option maxHeartbeats 4000000 in
theorem okX19_byF (l : Launch) (E : hc_E) (A : Nat → Prop) (d : Nat)  (hD : 1 ≤ d) {x0 : Int32} {x1 : Int32} {x2 : Int32} {σ : hc_St} {r : Int32} (h : fm_X19_byF  x0 x1 x2 σ = some r) (am : Nat → Nat → Nat) : hc_M l hc_V0 yX19_byF (ws_ yX19_byF cX19_byF 3 (some .int)) d E A [.int x0, .int x1, .int x2] am [] σ (.inl (some (.int r))) σ := by
  have hd1 : 1 ≤ d := by omega
  refine hc_enter2 (own := RX19) [(0, .int x0), (1, .int x1), (2, .int x2)] pl_X19 rfl hc_V0_st hc_G0_nd rfl (Nat.le_of_ble_eq_true rfl) (fun X hC hem => ?_)
  unfold fm_X19_byF at h
  refine hr_iload_n hC dX19_byF_0 rfl ?_
  by_cases c13 : x0 = 0
  · rw [if_pos c13] at h
    refine hr_tableIn hC 44 dX19_byF_1 (by rw [c13] <;> decide) (by rw [c13] <;> decide) (by rw [c13] <;> rfl) (by decide) ?_
    refine hr_iload_n hC dX19_byF_44 rfl ?_
    refine hr_iload_n hC dX19_byF_45 rfl ?_
    refine hr_iadd hC dX19_byF_46 ?_
    obtain rfl := Option.some.inj h
    exact hr_iret hC dX19_byF_47
  rw [if_neg c13] at h
  by_cases c14 : x0 = 1
  · rw [if_pos c14] at h
    refine hr_tableIn hC 48 dX19_byF_1 (by rw [c14] <;> decide) (by rw [c14] <;> decide) (by rw [c14] <;> rfl) (by decide) ?_
    refine hr_iload_n hC dX19_byF_48 rfl ?_
    refine hr_iload_n hC dX19_byF_49 rfl ?_
    refine hr_ishl hC dX19_byF_50 ?_
    obtain rfl := Option.some.inj h
    exact hr_iret hC dX19_byF_51
  rw [if_neg c14] at h
  by_cases c15 : x0 = 2
  · rw [if_pos c15] at h
    refine hr_tableIn hC 52 dX19_byF_1 (by rw [c15] <;> decide) (by rw [c15] <;> decide) (by rw [c15] <;> rfl) (by decide) ?_
    refine hr_iload_n hC dX19_byF_52 rfl ?_
    refine hr_iload_n hC dX19_byF_53 rfl ?_
    obtain ⟨v3, hv3, h⟩ := hl_ok h
    have J4 : ∀ w5 : Int32, (if x2 ≤ x1 then 0 else 1) = w5 → hc_At hc_V0 E 3 X 62 [] [.int w5] σ am [] := by
      intro w5 hw5
      obtain rfl := hv3.trans hw5
      obtain rfl := Option.some.inj h
      exact hr_iret hC dX19_byF_62
    refine hr_icmp_ge (x := _) hC 61 dX19_byF_54 (by decide) (fun c6 => ?_) (fun c6 => ?_)
    · refine hr_iconst (v := 0) hC dX19_byF_61 rfl ?_
      exact hr_sub _ rfl (J4 _ (by first | (rw [if_pos c6]; done) | (simp only [if_pos c6]; done) | rfl))
    · refine hr_iconst (v := 1) hC dX19_byF_57 rfl ?_
      refine hr_goto hC 62 dX19_byF_58 (by decide) ?_
      exact hr_sub _ rfl (J4 _ (by first | (rw [if_neg c6]; done) | (simp only [if_neg c6]; done) | rfl))
  rw [if_neg c15] at h
  by_cases c16 : x0 = 3
  · rw [if_pos c16] at h
    refine hr_tableIn hC 63 dX19_byF_1 (by rw [c16] <;> decide) (by rw [c16] <;> decide) (by rw [c16] <;> rfl) (by decide) ?_
    refine hr_iload_n hC dX19_byF_63 rfl ?_
    refine hr_ldc hC dX19_byF_64 q2626 ?_
    refine hr_iadd hC dX19_byF_66 ?_
    refine hr_iload_n hC dX19_byF_67 rfl ?_
    refine hr_ldc hC dX19_byF_68 q2626 ?_
    refine hr_iadd hC dX19_byF_70 ?_
    obtain ⟨v9, hv9, h⟩ := hl_ok h
    have J10 : ∀ w11 : Int32, (if (x2 + ((-2147483648))) ≤ (x1 + ((-2147483648))) then 0 else 1) = w11 → hc_At hc_V0 E 3 X 79 [] [.int w11] σ am [] := by
      intro w11 hw11
      obtain rfl := hv9.trans hw11
      obtain rfl := Option.some.inj h
      exact hr_iret hC dX19_byF_79
    refine hr_icmp_ge (x := _) hC 78 dX19_byF_71 (by decide) (fun c12 => ?_) (fun c12 => ?_)
    · refine hr_iconst (v := 0) hC dX19_byF_78 rfl ?_
      exact hr_sub _ rfl (J10 _ (by first | (rw [if_pos c12]; done) | (simp only [if_pos c12]; done) | rfl))
    · refine hr_iconst (v := 1) hC dX19_byF_74 rfl ?_
      refine hr_goto hC 79 dX19_byF_75 (by decide) ?_
      exact hr_sub _ rfl (J10 _ (by first | (rw [if_neg c12]; done) | (simp only [if_neg c12]; done) | rfl))
  rw [if_neg c16] at h
  by_cases c17 : x0 = 4
  · rw [if_pos c17] at h
    refine hr_tableIn hC 80 dX19_byF_1 (by rw [c17] <;> decide) (by rw [c17] <;> decide) (by rw [c17] <;> rfl) (by decide) ?_
    refine hr_iload_n hC dX19_byF_80 rfl ?_
    refine hr_iload_n hC dX19_byF_81 rfl ?_
    refine hr_ixor hC dX19_byF_82 ?_
    obtain rfl := Option.some.inj h
    exact hr_iret hC dX19_byF_83
  rw [if_neg c17] at h
  by_cases c18 : x0 = 5
  · rw [if_pos c18] at h
    refine hr_tableIn hC 84 dX19_byF_1 (by rw [c18] <;> decide) (by rw [c18] <;> decide) (by rw [c18] <;> rfl) (by decide) ?_
    refine hr_iload_n hC dX19_byF_84 rfl ?_
    refine hr_iload_n hC dX19_byF_85 rfl ?_
    refine hr_iushr hC dX19_byF_86 ?_
    obtain rfl := Option.some.inj h
    exact hr_iret hC dX19_byF_87
  rw [if_neg c18] at h
  by_cases c19 : x0 = 6
  · rw [if_pos c19] at h
    refine hr_tableIn hC 88 dX19_byF_1 (by rw [c19] <;> decide) (by rw [c19] <;> decide) (by rw [c19] <;> rfl) (by decide) ?_
    refine hr_iload_n hC dX19_byF_88 rfl ?_
    refine hr_iload_n hC dX19_byF_89 rfl ?_
    refine hr_ior hC dX19_byF_90 ?_
    obtain rfl := Option.some.inj h
    exact hr_iret hC dX19_byF_91
  rw [if_neg c19] at h
  refine hr_tableD hC 92 dX19_byF_1 (ks := [0, 1, 2, 3, 4, 5, 6]) (hc_l1 (hc_ne c13 rfl) (hc_l1 (hc_ne c14 rfl) (hc_l1 (hc_ne c15 rfl) (hc_l1 (hc_ne c16 rfl) (hc_l1 (hc_ne c17 rfl) (hc_l1 (hc_ne c18 rfl) (hc_l1 (hc_ne c19 rfl) hc_l0))))))) (by decide) (by decide) (by decide) ?_
  refine hr_iload_n hC dX19_byF_92 rfl ?_
  refine hr_iload_n hC dX19_byF_93 rfl ?_
  refine hr_iand hC dX19_byF_94 ?_
  obtain rfl := Option.some.inj h
  exact hr_iret hC dX19_byF_95
/-- HomeCompiler$Hart.reckoned(III)I -/
def fm_X19_reckoned  (x0 : Int32) (x1 : Int32) (x2 : Int32) (σ : hc_St) : Option Int32 := if x0 = 40 then (some ((jshr x1 x2))) else if x0 = 56 then (some ((x1 - x2))) else if x0 = 57 then (some ((jshr x1 x2))) else (Option.bind (fm_X19_byF ((x0 &&& 7)) x1 x2 σ) fun r1 => some r1)
set_option maxRecDepth 20000 in
set_option maxHeartbeats 4000000 in
theorem okX19_reckoned (l : Launch) (E : hc_E) (A : Nat → Prop) (d : Nat)  (hD : 2 ≤ d) {x0 : Int32} {x1 : Int32} {x2 : Int32} {σ : hc_St} {r : Int32} (h : fm_X19_reckoned  x0 x1 x2 σ = some r) (am : Nat → Nat → Nat) : hc_M l hc_V0 yX19_reckoned (ws_ yX19_reckoned cX19_reckoned 3 (some .int)) d E A [.int x0, .int x1, .int x2] am [] σ (.inl (some (.int r))) σ := by
  have hd1 : 1 ≤ d := by omega
  refine hc_enter2 (own := RX19) [(0, .int x0), (1, .int x1), (2, .int x2)] pl_X19 rfl hc_V0_st hc_G0_nd rfl (Nat.le_of_ble_eq_true rfl) (fun X hC hem => ?_)
  unfold fm_X19_reckoned at h
  refine hr_iload_n hC dX19_reckoned_0 rfl ?_
  by_cases c5 : x0 = 40
  · rw [if_pos c5] at h
    refine hr_lookup hC 40 dX19_reckoned_1 (by decide) (by rw [c5] <;> rfl) (by decide) ?_
    refine hr_iload_n hC dX19_reckoned_40 rfl ?_
    refine hr_iload_n hC dX19_reckoned_41 rfl ?_
    refine hr_ishr hC dX19_reckoned_42 ?_
    obtain rfl := Option.some.inj h
    exact hr_iret hC dX19_reckoned_43
  rw [if_neg c5] at h
  by_cases c6 : x0 = 56
  · rw [if_pos c6] at h
    refine hr_lookup hC 36 dX19_reckoned_1 (by decide) (by rw [c6] <;> rfl) (by decide) ?_
    refine hr_iload_n hC dX19_reckoned_36 rfl ?_
    refine hr_iload_n hC dX19_reckoned_37 rfl ?_
    refine hr_isub hC dX19_reckoned_38 ?_
    obtain rfl := Option.some.inj h
    exact hr_iret hC dX19_reckoned_39
  rw [if_neg c6] at h
  by_cases c7 : x0 = 57
  · rw [if_pos c7] at h
    refine hr_lookup hC 40 dX19_reckoned_1 (by decide) (by rw [c7] <;> rfl) (by decide) ?_
    refine hr_iload_n hC dX19_reckoned_40 rfl ?_
    refine hr_iload_n hC dX19_reckoned_41 rfl ?_
    refine hr_ishr hC dX19_reckoned_42 ?_
    obtain rfl := Option.some.inj h
    exact hr_iret hC dX19_reckoned_43
  rw [if_neg c7] at h
  refine hr_lookup hC 44 dX19_reckoned_1 (by decide) (hc_lkD (hc_l1 (hc_ne c5 rfl) (hc_l1 (hc_ne c6 rfl) (hc_l1 (hc_ne c7 rfl) hc_l0)))) (by decide) ?_
  refine hr_iload_n hC dX19_reckoned_44 rfl ?_
  refine hr_bipush (v := 7) hC dX19_reckoned_45 rfl ?_
  refine hr_iand hC dX19_reckoned_47 ?_
  refine hr_iload_n hC dX19_reckoned_48 rfl ?_
  refine hr_iload_n hC dX19_reckoned_49 rfl ?_
  obtain ⟨r1, e2, h⟩ := hx_bind h
  refine hs_callS0 hC [_, _, _] _ dX19_reckoned_50 q2623 q2624 q333 q2625 np_X19 rfl pd_X19_byF (Nat.le_of_ble_eq_true rfl) hd1 (okX19_byF l E A (d - 1)  (by omega)  e2 am) rfl ?_
  obtain rfl := Option.some.inj h
  exact hr_iret hC dX19_reckoned_53
/-- HomeCompiler$Ram.writePart(III)V -/
def fm_X17_writePart  (x1 : Int32) (x2 : Int32) (x3 : Int32) (σ : hc_St) : Option hc_St := hl (α := Int32) ((if x3 = 32 then (-1) else (jshl ((((jshl 1 x3)) - 1)) ((8 * ((x1 &&& 3))))))) fun v3 => hk (inb ((jshr x1 2)) (gL σ 18 1)) <| Option.bind (fm_X17_write x1 ((((((gC σ 18 1 ((jshr x1 2)))) &&& ((v3 ^^^ ((-1)))))) ||| ((((jshl x2 ((8 * ((x1 &&& 3)))))) &&& v3)))) σ) fun r5 => some r5
set_option maxRecDepth 20000 in
set_option maxHeartbeats 4000000 in
theorem okX17_writePart (l : Launch) (E : hc_E) (A : Nat → Prop) (d : Nat)  (hD : 2 ≤ d) {x1 : Int32} {x2 : Int32} {x3 : Int32} {σ : hc_St} {r : hc_St} (h : fm_X17_writePart  x1 x2 x3 σ = some r) (am : Nat → Nat → Nat) : hc_M l hc_V0 yX17_writePart (ws_ yX17_writePart cX17_writePart 6 none) d E A [.ref (E.2.1 18), .int x1, .int x2, .int x3] am [] σ (.inl none) r := by
  have hd1 : 1 ≤ d := by omega
  refine hc_enter2 (own := RX17) [(0, .ref (E.2.1 18)), (1, .int x1), (2, .int x2), (3, .int x3)] pl_X17 rfl hc_V0_st hc_G0_nd rfl (Nat.le_of_ble_eq_true rfl) (fun X hC hem => ?_)
  unfold fm_X17_writePart at h
  refine hr_bipush (v := 8) hC dX17_writePart_0 rfl ?_
  refine hr_iload_n hC dX17_writePart_2 rfl ?_
  refine hr_iconst (v := 3) hC dX17_writePart_3 rfl ?_
  refine hr_iand hC dX17_writePart_4 ?_
  refine hr_imul hC dX17_writePart_5 ?_
  refine hr_istore hC dX17_writePart_6 (by decide) ?_
  refine hr_iload_n hC dX17_writePart_8 rfl ?_
  refine hr_bipush (v := 32) hC dX17_writePart_9 rfl ?_
  obtain ⟨v3, hv3, h⟩ := hl_ok h
  have J9 : ∀ w10 : Int32, (if x3 = 32 then (-1) else (jshl ((((jshl 1 x3)) - 1)) ((8 * ((x1 &&& 3)))))) = w10 → hc_At hc_V0 E 6 X 26 [(0, .ref (E.2.1 18)), (1, .int x1), (2, .int x2), (4, .int (8 * ((x1 &&& 3))))] [.int w10] σ am [] := by
    intro w10 hw10
    obtain rfl := hv3.trans hw10
    refine hr_istore hC dX17_writePart_26 (by decide) ?_
    refine hr_aload_n hC dX17_writePart_28 rfl ?_
    refine hr_iload_n hC dX17_writePart_29 rfl ?_
    refine hr_aload_n hC dX17_writePart_30 rfl ?_
    refine hr_gA hC F18_1 rfl dX17_writePart_31 q866 ?_
    refine hr_iload_n hC dX17_writePart_34 rfl ?_
    refine hr_iconst (v := 2) hC dX17_writePart_35 rfl ?_
    refine hr_ishr hC dX17_writePart_36 ?_
    obtain ⟨c4, h⟩ := hk_ok h
    refine hs_iald hC A18_1 c4 dX17_writePart_37 ?_
    refine hr_iload hC dX17_writePart_38 rfl ?_
    refine hr_iconst (v := (-1)) hC dX17_writePart_40 rfl ?_
    refine hr_ixor hC dX17_writePart_41 ?_
    refine hr_iand hC dX17_writePart_42 ?_
    refine hr_iload_n hC dX17_writePart_43 rfl ?_
    refine hr_iload hC dX17_writePart_44 rfl ?_
    refine hr_ishl hC dX17_writePart_46 ?_
    refine hr_iload hC dX17_writePart_47 rfl ?_
    refine hr_iand hC dX17_writePart_49 ?_
    refine hr_ior hC dX17_writePart_50 ?_
    obtain ⟨r5, e6, h⟩ := hx_bind h
    refine hs_callV0 hC 18 [_, _] _ dX17_writePart_51 q2635 q2343 q2344 q331 q2345 np_X17 rfl OB_18 pd_X17_write (Nat.le_of_ble_eq_true rfl) hd1 (okX17_write l E A (d - 1)  (by omega)  e6 am) rfl ?_
    obtain rfl := Option.some.inj h
    exact hr_vret hC dX17_writePart_54
  refine hr_icmp_ne (x := _) hC 18 dX17_writePart_11 (by decide) (fun c11 => ?_) (fun c11 => ?_)
  · refine hr_iconst (v := 1) hC dX17_writePart_18 rfl ?_
    refine hr_iload_n hC dX17_writePart_19 rfl ?_
    refine hr_ishl hC dX17_writePart_20 ?_
    refine hr_iconst (v := 1) hC dX17_writePart_21 rfl ?_
    refine hr_isub hC dX17_writePart_22 ?_
    refine hr_iload hC dX17_writePart_23 rfl ?_
    refine hr_ishl hC dX17_writePart_25 ?_
    exact hr_sub _ rfl (J9 _ (by first | (rw [if_neg c11]; done) | (simp only [if_neg c11]; done) | rfl))
  · refine hr_iconst (v := (-1)) hC dX17_writePart_14 rfl ?_
    refine hr_goto hC 26 dX17_writePart_15 (by decide) ?_
    exact hr_sub _ rfl (J9 _ (by first | (rw [if_pos c11]; done) | (simp only [if_pos c11]; done) | rfl))
/-- HomeCompiler$Hart.store(III)I -/
def fm_X19_store (n : Nat) (x1 : Int32) (x2 : Int32) (x3 : Int32) (σ : hc_St) : Option (Int32 × hc_St) := if (x2 &&& ((((jshl 1 x1)) - 1))) = 0 then (Option.bind (fm_X19_find n x2 2 σ) fun r3 => if 0 ≤ r3.1 then (Option.bind (fm_X17_writePart r3.1 x3 ((8 * ((jshl 1 x1)))) r3.2) fun r9 => some (0, r9)) else (Option.bind (fm_X19_trap ((((-1)) - r3.1)) x2 r3.2) fun r13 => some (r13.1, r13.2))) else (Option.bind (fm_X19_trap 6 x2 σ) fun r17 => some (r17.1, r17.2))
set_option maxRecDepth 20000 in
set_option maxHeartbeats 4000000 in
theorem okX19_store (l : Launch) (E : hc_E) (A : Nat → Prop) (d : Nat) (n : Nat) (hD : 5 ≤ d) {x1 : Int32} {x2 : Int32} {x3 : Int32} {σ : hc_St} {r : (Int32 × hc_St)} (h : fm_X19_store n x1 x2 x3 σ = some r) (am : Nat → Nat → Nat) : hc_M l hc_V0 yX19_store (ws_ yX19_store cX19_store 6 (some .int)) d E A [.ref (E.2.1 20), .int x1, .int x2, .int x3] am [] σ (.inl (some (.int r.1))) r.2 := by
  have hd1 : 1 ≤ d := by omega
  refine hc_enter2 (own := RX19) [(0, .ref (E.2.1 20)), (1, .int x1), (2, .int x2), (3, .int x3)] pl_X19 rfl hc_V0_st hc_G0_nd rfl (Nat.le_of_ble_eq_true rfl) (fun X hC hem => ?_)
  unfold fm_X19_store at h
  refine hr_iconst (v := 1) hC dX19_store_0 rfl ?_
  refine hr_iload_n hC dX19_store_1 rfl ?_
  refine hr_ishl hC dX19_store_2 ?_
  refine hr_istore hC dX19_store_3 (by decide) ?_
  refine hr_iload_n hC dX19_store_5 rfl ?_
  refine hr_iload hC dX19_store_6 rfl ?_
  refine hr_iconst (v := 1) hC dX19_store_8 rfl ?_
  refine hr_isub hC dX19_store_9 ?_
  refine hr_iand hC dX19_store_10 ?_
  refine hr_if_eq (x := _) hC 22 dX19_store_11 (by decide) (fun c2 => ?_) (fun c2 => ?_)
  · rw [if_pos c2] at h
    refine hr_aload_n hC dX19_store_22 rfl ?_
    refine hr_iload_n hC dX19_store_23 rfl ?_
    refine hr_iconst (v := 2) hC dX19_store_24 rfl ?_
    obtain ⟨r3, e4, h⟩ := hx_bind h
    refine hs_callV0 hC 20 [_, _] _ dX19_store_25 q2512 q2513 q2514 q333 q2515 np_X19 rfl OB_20 pd_X19_find (Nat.le_of_ble_eq_true rfl) hd1 (okX19_find l E A (d - 1) n (by omega)  e4 am) rfl ?_
    refine hr_istore hC dX19_store_28 (by decide) ?_
    refine hr_iload hC dX19_store_30 rfl ?_
    refine hr_if_ge (x := _) hC 45 dX19_store_32 (by decide) (fun c8 => ?_) (fun c8 => ?_)
    · rw [if_pos c8] at h
      refine hr_aload_n hC dX19_store_45 rfl ?_
      refine hr_gO 18 hC F20_0 rfl dX19_store_46 q920 ?_
      refine hr_iload hC dX19_store_49 rfl ?_
      refine hr_iload_n hC dX19_store_51 rfl ?_
      refine hr_bipush (v := 8) hC dX19_store_52 rfl ?_
      refine hr_iload hC dX19_store_54 rfl ?_
      refine hr_imul hC dX19_store_56 ?_
      obtain ⟨r9, e10, h⟩ := hx_bind h
      refine hs_callV0 hC 18 [_, _, _] _ dX19_store_57 q2631 q2632 q2633 q331 q2634 np_X17 rfl OB_18 pd_X17_writePart (Nat.le_of_ble_eq_true rfl) hd1 (okX17_writePart l E A (d - 1)  (by omega)  e10 am) rfl ?_
      refine hr_iconst (v := 0) hC dX19_store_60 rfl ?_
      obtain rfl := Option.some.inj h
      exact hr_iret hC dX19_store_61
    · rw [if_neg c8] at h
      refine hr_aload_n hC dX19_store_35 rfl ?_
      refine hr_iconst (v := (-1)) hC dX19_store_36 rfl ?_
      refine hr_iload hC dX19_store_37 rfl ?_
      refine hr_isub hC dX19_store_39 ?_
      refine hr_iload_n hC dX19_store_40 rfl ?_
      obtain ⟨r13, e14, h⟩ := hx_bind h
      refine hs_callV0 hC 20 [_, _] _ dX19_store_41 q2493 q2495 qs157 q333 q2496 np_X19 rfl OB_20 pd_X19_trap (Nat.le_of_ble_eq_true rfl) hd1 (okX19_trap l E A (d - 1)  (by omega)  e14 am) rfl ?_
      obtain rfl := Option.some.inj h
      exact hr_iret hC dX19_store_44
  · rw [if_neg c2] at h
    refine hr_aload_n hC dX19_store_14 rfl ?_
    refine hr_bipush (v := 6) hC dX19_store_15 rfl ?_
    refine hr_iload_n hC dX19_store_17 rfl ?_
    obtain ⟨r17, e18, h⟩ := hx_bind h
    refine hs_callV0 hC 20 [_, _] _ dX19_store_18 q2493 q2495 qs157 q333 q2496 np_X19 rfl OB_20 pd_X19_trap (Nat.le_of_ble_eq_true rfl) hd1 (okX19_trap l E A (d - 1)  (by omega)  e18 am) rfl ?_
    obtain rfl := Option.some.inj h
    exact hr_iret hC dX19_store_21
/-- HomeCompiler$Hart.load(III)I -/
def fm_X19_load (n : Nat) (x1 : Int32) (x2 : Int32) (x3 : Int32) (σ : hc_St) : Option (Int32 × hc_St) := if (x2 &&& ((((jshl 1 ((x1 &&& 3)))) - 1))) = 0 then (Option.bind (fm_X19_find n x2 1 σ) fun r3 => if 0 ≤ r3.1 then (Option.bind (fm_X17_word r3.1 r3.2) fun r9 => hl (α := Int32) ((if x1 = 0 then (((jush r9 ((8 * ((r3.1 &&& 3)))))).toInt8.toInt32) else (if x1 = 1 then (((jush r9 ((8 * ((r3.1 &&& 3)))))).toInt16.toInt32) else (if x1 = 4 then (((jush r9 ((8 * ((r3.1 &&& 3)))))) &&& 255) else (if x1 = 5 then (((jush r9 ((8 * ((r3.1 &&& 3)))))) &&& 65535) else (jush r9 ((8 * ((r3.1 &&& 3)))))))))) fun v15 => Option.bind (fm_X19_set x3 v15 r3.2) fun r16 => some (0, r16)) else (Option.bind (fm_X19_trap ((((-1)) - r3.1)) x2 r3.2) fun r26 => some (r26.1, r26.2))) else (Option.bind (fm_X19_trap 4 x2 σ) fun r30 => some (r30.1, r30.2))
set_option maxRecDepth 20000 in
set_option maxHeartbeats 4000000 in
theorem okX19_load (l : Launch) (E : hc_E) (A : Nat → Prop) (d : Nat) (n : Nat) (hD : 5 ≤ d) {x1 : Int32} {x2 : Int32} {x3 : Int32} {σ : hc_St} {r : (Int32 × hc_St)} (h : fm_X19_load n x1 x2 x3 σ = some r) (am : Nat → Nat → Nat) : hc_M l hc_V0 yX19_load (ws_ yX19_load cX19_load 7 (some .int)) d E A [.ref (E.2.1 20), .int x1, .int x2, .int x3] am [] σ (.inl (some (.int r.1))) r.2 := by
  have hd1 : 1 ≤ d := by omega
  refine hc_enter2 (own := RX19) [(0, .ref (E.2.1 20)), (1, .int x1), (2, .int x2), (3, .int x3)] pl_X19 rfl hc_V0_st hc_G0_nd rfl (Nat.le_of_ble_eq_true rfl) (fun X hC hem => ?_)
  unfold fm_X19_load at h
  refine hr_iconst (v := 1) hC dX19_load_0 rfl ?_
  refine hr_iload_n hC dX19_load_1 rfl ?_
  refine hr_iconst (v := 3) hC dX19_load_2 rfl ?_
  refine hr_iand hC dX19_load_3 ?_
  refine hr_ishl hC dX19_load_4 ?_
  refine hr_istore hC dX19_load_5 (by decide) ?_
  refine hr_iload_n hC dX19_load_7 rfl ?_
  refine hr_iload hC dX19_load_8 rfl ?_
  refine hr_iconst (v := 1) hC dX19_load_10 rfl ?_
  refine hr_isub hC dX19_load_11 ?_
  refine hr_iand hC dX19_load_12 ?_
  refine hr_if_eq (x := _) hC 23 dX19_load_13 (by decide) (fun c2 => ?_) (fun c2 => ?_)
  · rw [if_pos c2] at h
    refine hr_aload_n hC dX19_load_23 rfl ?_
    refine hr_iload_n hC dX19_load_24 rfl ?_
    refine hr_iconst (v := 1) hC dX19_load_25 rfl ?_
    obtain ⟨r3, e4, h⟩ := hx_bind h
    refine hs_callV0 hC 20 [_, _] _ dX19_load_26 q2512 q2513 q2514 q333 q2515 np_X19 rfl OB_20 pd_X19_find (Nat.le_of_ble_eq_true rfl) hd1 (okX19_find l E A (d - 1) n (by omega)  e4 am) rfl ?_
    refine hr_istore hC dX19_load_29 (by decide) ?_
    refine hr_iload hC dX19_load_31 rfl ?_
    refine hr_if_ge (x := _) hC 46 dX19_load_33 (by decide) (fun c8 => ?_) (fun c8 => ?_)
    · rw [if_pos c8] at h
      refine hr_aload_n hC dX19_load_46 rfl ?_
      refine hr_gO 18 hC F20_0 rfl dX19_load_47 q920 ?_
      refine hr_iload hC dX19_load_50 rfl ?_
      obtain ⟨r9, e10, h⟩ := hx_bind h
      refine hs_callV0 hC 18 [_] _ dX19_load_52 q2583 q2557 q2558 q331 q2559 np_X17 rfl OB_18 pd_X17_word (Nat.le_of_ble_eq_true rfl) hd1 (okX17_word l E A (d - 1)  (by omega)  e10 am) rfl ?_
      refine hr_bipush (v := 8) hC dX19_load_55 rfl ?_
      refine hr_iload hC dX19_load_57 rfl ?_
      refine hr_iconst (v := 3) hC dX19_load_59 rfl ?_
      refine hr_iand hC dX19_load_60 ?_
      refine hr_imul hC dX19_load_61 ?_
      refine hr_iushr hC dX19_load_62 ?_
      refine hr_istore hC dX19_load_63 (by decide) ?_
      refine hr_aload_n hC dX19_load_65 rfl ?_
      refine hr_iload_n hC dX19_load_66 rfl ?_
      refine hr_iload_n hC dX19_load_67 rfl ?_
      obtain ⟨v15, hv15, h⟩ := hl_ok h
      have J20 : ∀ w21 : Int32, (if x1 = 0 then (((jush r9 ((8 * ((r3.1 &&& 3)))))).toInt8.toInt32) else (if x1 = 1 then (((jush r9 ((8 * ((r3.1 &&& 3)))))).toInt16.toInt32) else (if x1 = 4 then (((jush r9 ((8 * ((r3.1 &&& 3)))))) &&& 255) else (if x1 = 5 then (((jush r9 ((8 * ((r3.1 &&& 3)))))) &&& 65535) else (jush r9 ((8 * ((r3.1 &&& 3))))))))) = w21 → hc_At hc_V0 E 7 X 117 [] [.int w21, .int x3, .ref (E.2.1 20)] r3.2 am [] := by
        intro w21 hw21
        obtain rfl := hv15.trans hw21
        obtain ⟨r16, e17, h⟩ := hx_bind h
        refine hs_callV0 hC 20 [_, _] _ dX19_load_117 q2612 q2614 qs164 q333 q2615 np_X19 rfl OB_20 pd_X19_set (Nat.le_of_ble_eq_true rfl) hd1 (okX19_set l E A (d - 1)  (by omega)  e17 am) rfl ?_
        refine hr_iconst (v := 0) hC dX19_load_120 rfl ?_
        obtain rfl := Option.some.inj h
        exact hr_iret hC dX19_load_121
      refine hr_if_ne (x := _) hC 77 dX19_load_68 (by decide) (fun c22 => ?_) (fun c22 => ?_)
      · refine hr_iload_n hC dX19_load_77 rfl ?_
        refine hr_iconst (v := 1) hC dX19_load_78 rfl ?_
        refine hr_icmp_ne (x := _) hC 88 dX19_load_79 (by decide) (fun c23 => ?_) (fun c23 => ?_)
        · refine hr_iload_n hC dX19_load_88 rfl ?_
          refine hr_iconst (v := 4) hC dX19_load_89 rfl ?_
          refine hr_icmp_ne (x := _) hC 102 dX19_load_90 (by decide) (fun c24 => ?_) (fun c24 => ?_)
          · refine hr_iload_n hC dX19_load_102 rfl ?_
            refine hr_iconst (v := 5) hC dX19_load_103 rfl ?_
            refine hr_icmp_ne (x := _) hC 115 dX19_load_104 (by decide) (fun c25 => ?_) (fun c25 => ?_)
            · refine hr_iload hC dX19_load_115 rfl ?_
              exact hr_sub _ rfl (J20 _ (by first | (rw [if_neg c22, if_neg c23, if_neg c24, if_neg c25]; done) | (simp only [if_neg c22, if_neg c23, if_neg c24, if_neg c25]; done) | rfl))
            · refine hr_iload hC dX19_load_107 rfl ?_
              refine hr_ldc hC dX19_load_109 q2640 ?_
              refine hr_iand hC dX19_load_111 ?_
              refine hr_goto hC 117 dX19_load_112 (by decide) ?_
              exact hr_sub _ rfl (J20 _ (by first | (rw [if_neg c22, if_neg c23, if_neg c24, if_pos c25]; done) | (simp only [if_neg c22, if_neg c23, if_neg c24, if_pos c25]; done) | rfl))
          · refine hr_iload hC dX19_load_93 rfl ?_
            refine hr_sipush (v := 255) hC dX19_load_95 rfl ?_
            refine hr_iand hC dX19_load_98 ?_
            refine hr_goto hC 117 dX19_load_99 (by decide) ?_
            exact hr_sub _ rfl (J20 _ (by first | (rw [if_neg c22, if_neg c23, if_pos c24]; done) | (simp only [if_neg c22, if_neg c23, if_pos c24]; done) | rfl))
        · refine hr_iload hC dX19_load_82 rfl ?_
          refine hr_i2s hC dX19_load_84 ?_
          refine hr_goto hC 117 dX19_load_85 (by decide) ?_
          exact hr_sub _ rfl (J20 _ (by first | (rw [if_neg c22, if_pos c23]; done) | (simp only [if_neg c22, if_pos c23]; done) | rfl))
      · refine hr_iload hC dX19_load_71 rfl ?_
        refine hr_i2b hC dX19_load_73 ?_
        refine hr_goto hC 117 dX19_load_74 (by decide) ?_
        exact hr_sub _ rfl (J20 _ (by first | (rw [if_pos c22]; done) | (simp only [if_pos c22]; done) | rfl))
    · rw [if_neg c8] at h
      refine hr_aload_n hC dX19_load_36 rfl ?_
      refine hr_iconst (v := (-1)) hC dX19_load_37 rfl ?_
      refine hr_iload hC dX19_load_38 rfl ?_
      refine hr_isub hC dX19_load_40 ?_
      refine hr_iload_n hC dX19_load_41 rfl ?_
      obtain ⟨r26, e27, h⟩ := hx_bind h
      refine hs_callV0 hC 20 [_, _] _ dX19_load_42 q2493 q2495 qs157 q333 q2496 np_X19 rfl OB_20 pd_X19_trap (Nat.le_of_ble_eq_true rfl) hd1 (okX19_trap l E A (d - 1)  (by omega)  e27 am) rfl ?_
      obtain rfl := Option.some.inj h
      exact hr_iret hC dX19_load_45
  · rw [if_neg c2] at h
    refine hr_aload_n hC dX19_load_16 rfl ?_
    refine hr_iconst (v := 4) hC dX19_load_17 rfl ?_
    refine hr_iload_n hC dX19_load_18 rfl ?_
    obtain ⟨r30, e31, h⟩ := hx_bind h
    refine hs_callV0 hC 20 [_, _] _ dX19_load_19 q2493 q2495 qs157 q333 q2496 np_X19 rfl OB_20 pd_X19_trap (Nat.le_of_ble_eq_true rfl) hd1 (okX19_trap l E A (d - 1)  (by omega)  e31 am) rfl ?_
    obtain rfl := Option.some.inj h
    exact hr_iret hC dX19_load_22
/-- HomeCompiler$Hart.isTaken(III)Z -/
def fm_X19_isTaken  (x0 : Int32) (x1 : Int32) (x2 : Int32) (σ : hc_St) : Option Int32 := hl (α := Int32) ((if 2 ≤ x0 then (if 6 ≤ x0 then (if (x2 + ((-2147483648))) ≤ (x1 + ((-2147483648))) then 0 else 1) else (if x2 ≤ x1 then 0 else 1)) else (if x1 = x2 then 1 else 0))) fun v3 => hl (α := Int32) ((if (x0 &&& 1) = 0 then 1 else 0)) fun v6 => hl (α := Int32) ((if v3 = v6 then 1 else 0)) fun v9 => hk (hb01 v9) <| some v9
set_option maxRecDepth 20000 in
set_option maxHeartbeats 4000000 in
theorem okX19_isTaken (l : Launch) (E : hc_E) (A : Nat → Prop) (d : Nat)  (hD : 1 ≤ d) {x0 : Int32} {x1 : Int32} {x2 : Int32} {σ : hc_St} {r : Int32} (h : fm_X19_isTaken  x0 x1 x2 σ = some r) (am : Nat → Nat → Nat) : hc_M l hc_V0 yX19_isTaken (ws_ yX19_isTaken cX19_isTaken 4 (some .boolean)) d E A [.int x0, .int x1, .int x2] am [] σ (.inl (some (.int r))) σ := by
  have hd1 : 1 ≤ d := by omega
  refine hc_enter2 (own := RX19) [(0, .int x0), (1, .int x1), (2, .int x2)] pl_X19 rfl hc_V0_st hc_G0_nd rfl (Nat.le_of_ble_eq_true rfl) (fun X hC hem => ?_)
  unfold fm_X19_isTaken at h
  refine hr_iload_n hC dX19_isTaken_0 rfl ?_
  refine hr_iconst (v := 2) hC dX19_isTaken_1 rfl ?_
  obtain ⟨v3, hv3, h⟩ := hl_ok h
  have J17 : ∀ w18 : Int32, (if 2 ≤ x0 then (if 6 ≤ x0 then (if (x2 + ((-2147483648))) ≤ (x1 + ((-2147483648))) then 0 else 1) else (if x2 ≤ x1 then 0 else 1)) else (if x1 = x2 then 1 else 0)) = w18 → hc_At hc_V0 E 4 X 53 [(0, .int x0)] [.int w18] σ am [] := by
    intro w18 hw18
    obtain rfl := hv3.trans hw18
    refine hr_istore_n hC dX19_isTaken_53 (by decide) ?_
    refine hr_iload_n hC dX19_isTaken_54 rfl ?_
    refine hr_iload_n hC dX19_isTaken_55 rfl ?_
    refine hr_iconst (v := 1) hC dX19_isTaken_56 rfl ?_
    refine hr_iand hC dX19_isTaken_57 ?_
    obtain ⟨v6, hv6, h⟩ := hl_ok h
    have J14 : ∀ w15 : Int32, (if (x0 &&& 1) = 0 then 1 else 0) = w15 → hc_At hc_V0 E 4 X 66 [] [.int w15, .int v3] σ am [] := by
      intro w15 hw15
      obtain rfl := hv6.trans hw15
      obtain ⟨v9, hv9, h⟩ := hl_ok h
      have J11 : ∀ w12 : Int32, (if v3 = v6 then 1 else 0) = w12 → hc_At hc_V0 E 4 X 74 [] [.int w12] σ am [] := by
        intro w12 hw12
        obtain rfl := hv9.trans hw12
        obtain ⟨c10, h⟩ := hk_ok h
        obtain rfl := Option.some.inj h
        exact hr_zret hC (hb01_n c10) dX19_isTaken_74
      refine hr_icmp_ne (x := _) hC 73 dX19_isTaken_66 (by decide) (fun c13 => ?_) (fun c13 => ?_)
      · refine hr_iconst (v := 0) hC dX19_isTaken_73 rfl ?_
        exact hr_sub _ rfl (J11 _ (by first | (rw [if_neg c13]; done) | (simp only [if_neg c13]; done) | rfl))
      · refine hr_iconst (v := 1) hC dX19_isTaken_69 rfl ?_
        refine hr_goto hC 74 dX19_isTaken_70 (by decide) ?_
        exact hr_sub _ rfl (J11 _ (by first | (rw [if_pos c13]; done) | (simp only [if_pos c13]; done) | rfl))
    refine hr_if_ne (x := _) hC 65 dX19_isTaken_58 (by decide) (fun c16 => ?_) (fun c16 => ?_)
    · refine hr_iconst (v := 0) hC dX19_isTaken_65 rfl ?_
      exact hr_sub _ rfl (J14 _ (by first | (rw [if_neg c16]; done) | (simp only [if_neg c16]; done) | rfl))
    · refine hr_iconst (v := 1) hC dX19_isTaken_61 rfl ?_
      refine hr_goto hC 66 dX19_isTaken_62 (by decide) ?_
      exact hr_sub _ rfl (J14 _ (by first | (rw [if_pos c16]; done) | (simp only [if_pos c16]; done) | rfl))
  refine hr_icmp_ge (x := _) hC 18 dX19_isTaken_2 (by decide) (fun c19 => ?_) (fun c19 => ?_)
  · refine hr_iload_n hC dX19_isTaken_18 rfl ?_
    refine hr_bipush (v := 6) hC dX19_isTaken_19 rfl ?_
    refine hr_icmp_ge (x := _) hC 37 dX19_isTaken_21 (by decide) (fun c20 => ?_) (fun c20 => ?_)
    · refine hr_iload_n hC dX19_isTaken_37 rfl ?_
      refine hr_ldc hC dX19_isTaken_38 q2626 ?_
      refine hr_iadd hC dX19_isTaken_40 ?_
      refine hr_iload_n hC dX19_isTaken_41 rfl ?_
      refine hr_ldc hC dX19_isTaken_42 q2626 ?_
      refine hr_iadd hC dX19_isTaken_44 ?_
      refine hr_icmp_ge (x := _) hC 52 dX19_isTaken_45 (by decide) (fun c21 => ?_) (fun c21 => ?_)
      · refine hr_iconst (v := 0) hC dX19_isTaken_52 rfl ?_
        exact hr_sub _ rfl (J17 _ (by first | (rw [if_pos c19, if_pos c20, if_pos c21]; done) | (simp only [if_pos c19, if_pos c20, if_pos c21]; done) | rfl))
      · refine hr_iconst (v := 1) hC dX19_isTaken_48 rfl ?_
        refine hr_goto hC 53 dX19_isTaken_49 (by decide) ?_
        exact hr_sub _ rfl (J17 _ (by first | (rw [if_pos c19, if_pos c20, if_neg c21]; done) | (simp only [if_pos c19, if_pos c20, if_neg c21]; done) | rfl))
    · refine hr_iload_n hC dX19_isTaken_24 rfl ?_
      refine hr_iload_n hC dX19_isTaken_25 rfl ?_
      refine hr_icmp_ge (x := _) hC 33 dX19_isTaken_26 (by decide) (fun c22 => ?_) (fun c22 => ?_)
      · refine hr_iconst (v := 0) hC dX19_isTaken_33 rfl ?_
        refine hr_goto hC 53 dX19_isTaken_34 (by decide) ?_
        exact hr_sub _ rfl (J17 _ (by first | (rw [if_pos c19, if_neg c20, if_pos c22]; done) | (simp only [if_pos c19, if_neg c20, if_pos c22]; done) | rfl))
      · refine hr_iconst (v := 1) hC dX19_isTaken_29 rfl ?_
        refine hr_goto hC 53 dX19_isTaken_30 (by decide) ?_
        exact hr_sub _ rfl (J17 _ (by first | (rw [if_pos c19, if_neg c20, if_neg c22]; done) | (simp only [if_pos c19, if_neg c20, if_neg c22]; done) | rfl))
  · refine hr_iload_n hC dX19_isTaken_5 rfl ?_
    refine hr_iload_n hC dX19_isTaken_6 rfl ?_
    refine hr_icmp_ne (x := _) hC 14 dX19_isTaken_7 (by decide) (fun c23 => ?_) (fun c23 => ?_)
    · refine hr_iconst (v := 0) hC dX19_isTaken_14 rfl ?_
      refine hr_goto hC 53 dX19_isTaken_15 (by decide) ?_
      exact hr_sub _ rfl (J17 _ (by first | (rw [if_neg c19, if_neg c23]; done) | (simp only [if_neg c19, if_neg c23]; done) | rfl))
    · refine hr_iconst (v := 1) hC dX19_isTaken_10 rfl ?_
      refine hr_goto hC 53 dX19_isTaken_11 (by decide) ?_
      exact hr_sub _ rfl (J17 _ (by first | (rw [if_neg c19, if_pos c23]; done) | (simp only [if_neg c19, if_pos c23]; done) | rfl))
/-- HomeCompiler$Decoder.offset(I)I -/
def fm_X22_offset  (x0 : Int32) (σ : hc_St) : Option Int32 := some ((((((((jshl ((jshr x0 31)) 12)) ||| ((jshl ((((jshr x0 7)) &&& 1)) 11)))) ||| ((jshl ((((jshr x0 25)) &&& 63)) 5)))) ||| ((jshl ((((jshr x0 8)) &&& 15)) 1))))
set_option maxRecDepth 20000 in
set_option maxHeartbeats 4000000 in
theorem okX22_offset (l : Launch) (E : hc_E) (A : Nat → Prop) (d : Nat)  (hD : 1 ≤ d) {x0 : Int32} {σ : hc_St} {r : Int32} (h : fm_X22_offset  x0 σ = some r) (am : Nat → Nat → Nat) : hc_M l hc_V0 yX22_offset (ws_ yX22_offset cX22_offset 1 (some .int)) d E A [.int x0] am [] σ (.inl (some (.int r))) σ := by
  have hd1 : 1 ≤ d := by omega
  refine hc_enter2 (own := RX22) [(0, .int x0)] pl_X22 rfl hc_V0_st hc_G0_nd rfl (Nat.le_of_ble_eq_true rfl) (fun X hC hem => ?_)
  unfold fm_X22_offset at h
  refine hr_iload_n hC dX22_offset_0 rfl ?_
  refine hr_bipush (v := 31) hC dX22_offset_1 rfl ?_
  refine hr_ishr hC dX22_offset_3 ?_
  refine hr_bipush (v := 12) hC dX22_offset_4 rfl ?_
  refine hr_ishl hC dX22_offset_6 ?_
  refine hr_iload_n hC dX22_offset_7 rfl ?_
  refine hr_bipush (v := 7) hC dX22_offset_8 rfl ?_
  refine hr_ishr hC dX22_offset_10 ?_
  refine hr_iconst (v := 1) hC dX22_offset_11 rfl ?_
  refine hr_iand hC dX22_offset_12 ?_
  refine hr_bipush (v := 11) hC dX22_offset_13 rfl ?_
  refine hr_ishl hC dX22_offset_15 ?_
  refine hr_ior hC dX22_offset_16 ?_
  refine hr_iload_n hC dX22_offset_17 rfl ?_
  refine hr_bipush (v := 25) hC dX22_offset_18 rfl ?_
  refine hr_ishr hC dX22_offset_20 ?_
  refine hr_bipush (v := 63) hC dX22_offset_21 rfl ?_
  refine hr_iand hC dX22_offset_23 ?_
  refine hr_iconst (v := 5) hC dX22_offset_24 rfl ?_
  refine hr_ishl hC dX22_offset_25 ?_
  refine hr_ior hC dX22_offset_26 ?_
  refine hr_iload_n hC dX22_offset_27 rfl ?_
  refine hr_bipush (v := 8) hC dX22_offset_28 rfl ?_
  refine hr_ishr hC dX22_offset_30 ?_
  refine hr_bipush (v := 15) hC dX22_offset_31 rfl ?_
  refine hr_iand hC dX22_offset_33 ?_
  refine hr_iconst (v := 1) hC dX22_offset_34 rfl ?_
  refine hr_ishl hC dX22_offset_35 ?_
  refine hr_ior hC dX22_offset_36 ?_
  obtain rfl := Option.some.inj h
  exact hr_iret hC dX22_offset_37
/-- HomeCompiler$Hart.go(II)I -/
def fm_X19_go  (x1 : Int32) (x2 : Int32) (σ : hc_St) : Option (Int32 × hc_St) := if (x1 &&& 3) = 0 then (Option.bind (fm_X19_set x2 ((((gI σ 20 4)) + 4)) σ) fun r3 => hl (pI r3 20 6 x1) fun σ7 => some (0, σ7)) else (Option.bind (fm_X19_trap 0 x1 σ) fun r8 => some (r8.1, r8.2))
set_option maxRecDepth 20000 in
set_option maxHeartbeats 4000000 in
theorem okX19_go (l : Launch) (E : hc_E) (A : Nat → Prop) (d : Nat)  (hD : 4 ≤ d) {x1 : Int32} {x2 : Int32} {σ : hc_St} {r : (Int32 × hc_St)} (h : fm_X19_go  x1 x2 σ = some r) (am : Nat → Nat → Nat) : hc_M l hc_V0 yX19_go (ws_ yX19_go cX19_go 3 (some .int)) d E A [.ref (E.2.1 20), .int x1, .int x2] am [] σ (.inl (some (.int r.1))) r.2 := by
  have hd1 : 1 ≤ d := by omega
  refine hc_enter2 (own := RX19) [(0, .ref (E.2.1 20)), (1, .int x1), (2, .int x2)] pl_X19 rfl hc_V0_st hc_G0_nd rfl (Nat.le_of_ble_eq_true rfl) (fun X hC hem => ?_)
  unfold fm_X19_go at h
  refine hr_iload_n hC dX19_go_0 rfl ?_
  refine hr_iconst (v := 3) hC dX19_go_1 rfl ?_
  refine hr_iand hC dX19_go_2 ?_
  refine hr_if_eq (x := _) hC 13 dX19_go_3 (by decide) (fun c2 => ?_) (fun c2 => ?_)
  · rw [if_pos c2] at h
    refine hr_aload_n hC dX19_go_13 rfl ?_
    refine hr_iload_n hC dX19_go_14 rfl ?_
    refine hr_aload_n hC dX19_go_15 rfl ?_
    refine hr_gI hC F20_4 dX19_go_16 q927 ?_
    refine hr_iconst (v := 4) hC dX19_go_19 rfl ?_
    refine hr_iadd hC dX19_go_20 ?_
    obtain ⟨r3, e4, h⟩ := hx_bind h
    refine hs_callV0 hC 20 [_, _] _ dX19_go_21 q2612 q2614 qs164 q333 q2615 np_X19 rfl OB_20 pd_X19_set (Nat.le_of_ble_eq_true rfl) hd1 (okX19_set l E A (d - 1)  (by omega)  e4 am) rfl ?_
    refine hr_aload_n hC dX19_go_24 rfl ?_
    refine hr_iload_n hC dX19_go_25 rfl ?_
    obtain ⟨σ7, hσ7, h⟩ := hl_ok h
    refine hr_pI hC F20_6 PX19_6 dX19_go_26 q930 ?_
    rw [← hσ7]
    refine hr_iconst (v := 0) hC dX19_go_29 rfl ?_
    obtain rfl := Option.some.inj h
    exact hr_iret hC dX19_go_30
  · rw [if_neg c2] at h
    refine hr_aload_n hC dX19_go_6 rfl ?_
    refine hr_iconst (v := 0) hC dX19_go_7 rfl ?_
    refine hr_iload_n hC dX19_go_8 rfl ?_
    obtain ⟨r8, e9, h⟩ := hx_bind h
    refine hs_callV0 hC 20 [_, _] _ dX19_go_9 q2493 q2495 qs157 q333 q2496 np_X19 rfl OB_20 pd_X19_trap (Nat.le_of_ble_eq_true rfl) hd1 (okX19_trap l E A (d - 1)  (by omega)  e9 am) rfl ?_
    obtain rfl := Option.some.inj h
    exact hr_iret hC dX19_go_12
/-- HomeCompiler$Decoder.jump(I)I -/
def fm_X22_jump  (x0 : Int32) (σ : hc_St) : Option Int32 := some ((((((((jshl ((jshr x0 31)) 20)) ||| ((jshl ((((jshr x0 12)) &&& 255)) 12)))) ||| ((jshl ((((jshr x0 20)) &&& 1)) 11)))) ||| ((jshl ((((jshr x0 21)) &&& 1023)) 1))))
set_option maxRecDepth 20000 in
set_option maxHeartbeats 4000000 in
theorem okX22_jump (l : Launch) (E : hc_E) (A : Nat → Prop) (d : Nat)  (hD : 1 ≤ d) {x0 : Int32} {σ : hc_St} {r : Int32} (h : fm_X22_jump  x0 σ = some r) (am : Nat → Nat → Nat) : hc_M l hc_V0 yX22_jump (ws_ yX22_jump cX22_jump 1 (some .int)) d E A [.int x0] am [] σ (.inl (some (.int r))) σ := by
  have hd1 : 1 ≤ d := by omega
  refine hc_enter2 (own := RX22) [(0, .int x0)] pl_X22 rfl hc_V0_st hc_G0_nd rfl (Nat.le_of_ble_eq_true rfl) (fun X hC hem => ?_)
  unfold fm_X22_jump at h
  refine hr_iload_n hC dX22_jump_0 rfl ?_
  refine hr_bipush (v := 31) hC dX22_jump_1 rfl ?_
  refine hr_ishr hC dX22_jump_3 ?_
  refine hr_bipush (v := 20) hC dX22_jump_4 rfl ?_
  refine hr_ishl hC dX22_jump_6 ?_
  refine hr_iload_n hC dX22_jump_7 rfl ?_
  refine hr_bipush (v := 12) hC dX22_jump_8 rfl ?_
  refine hr_ishr hC dX22_jump_10 ?_
  refine hr_sipush (v := 255) hC dX22_jump_11 rfl ?_
  refine hr_iand hC dX22_jump_14 ?_
  refine hr_bipush (v := 12) hC dX22_jump_15 rfl ?_
  refine hr_ishl hC dX22_jump_17 ?_
  refine hr_ior hC dX22_jump_18 ?_
  refine hr_iload_n hC dX22_jump_19 rfl ?_
  refine hr_bipush (v := 20) hC dX22_jump_20 rfl ?_
  refine hr_ishr hC dX22_jump_22 ?_
  refine hr_iconst (v := 1) hC dX22_jump_23 rfl ?_
  refine hr_iand hC dX22_jump_24 ?_
  refine hr_bipush (v := 11) hC dX22_jump_25 rfl ?_
  refine hr_ishl hC dX22_jump_27 ?_
  refine hr_ior hC dX22_jump_28 ?_
  refine hr_iload_n hC dX22_jump_29 rfl ?_
  refine hr_bipush (v := 21) hC dX22_jump_30 rfl ?_
  refine hr_ishr hC dX22_jump_32 ?_
  refine hr_sipush (v := 1023) hC dX22_jump_33 rfl ?_
  refine hr_iand hC dX22_jump_36 ?_
  refine hr_iconst (v := 1) hC dX22_jump_37 rfl ?_
  refine hr_ishl hC dX22_jump_38 ?_
  refine hr_ior hC dX22_jump_39 ?_
  obtain rfl := Option.some.inj h
  exact hr_iret hC dX22_jump_40
/-- HomeCompiler$Hart.perform(II)I -/
def fm_X19_perform (n : Nat) (x1 : Int32) (x2 : Int32) (σ : hc_St) : Option (Int32 × hc_St) := hk (inb ((((jshr x2 15)) &&& 31)) (gL σ 20 3)) <| hk (inb ((((jshr x2 20)) &&& 31)) (gL σ 20 3)) <| if 72 ≤ x1 then (Option.bind (fm_X19_special x1 x2 ((((jshr x2 7)) &&& 31)) ((gC σ 20 3 ((((jshr x2 15)) &&& 31)))) σ) fun r5 => some (r5.1, r5.2)) else (if x1 = 1 then (Option.bind (fm_X19_special x1 x2 ((((jshr x2 7)) &&& 31)) ((gC σ 20 3 ((((jshr x2 15)) &&& 31)))) σ) fun r92 => some (r92.1, r92.2)) else (if x1 < 64 then (if x1 < 32 then (if x1 < 24 then (if x1 < 16 then (if x1 < 8 then (if x1 = 2 then (Option.bind (fm_X19_set ((((jshr x2 7)) &&& 31)) ((x2 &&& ((-4096)))) σ) fun r25 => some (0, r25)) else if x1 = 3 then (Option.bind (fm_X19_set ((((jshr x2 7)) &&& 31)) ((((gI σ 20 4)) + ((x2 &&& ((-4096)))))) σ) fun r29 => some (0, r29)) else if x1 = 4 then (Option.bind (fm_X22_jump x2 σ) fun r33 => Option.bind (fm_X19_go ((((gI σ 20 4)) + r33)) ((((jshr x2 7)) &&& 31)) σ) fun r37 => some (r37.1, r37.2)) else (Option.bind (fm_X19_go ((((((gC σ 20 3 ((((jshr x2 15)) &&& 31)))) + ((jshr x2 20)))) &&& ((-2)))) ((((jshr x2 7)) &&& 31)) σ) fun r21 => some (r21.1, r21.2))) else (Option.bind (fm_X19_isTaken ((x1 - 8)) ((gC σ 20 3 ((((jshr x2 15)) &&& 31)))) ((gC σ 20 3 ((((jshr x2 20)) &&& 31)))) σ) fun r44 => Option.bind (α := hc_St × Int32) (if r44 = 0 then (some (σ, 0)) else (Option.bind (fm_X22_offset x2 σ) fun r54 => Option.bind (fm_X19_go ((((gI σ 20 4)) + r54)) 0 σ) fun r58 => some (r58.2, r58.1))) fun r50 => some (r50.2, r50.1))) else (Option.bind (fm_X19_load n ((x1 - 16)) ((((gC σ 20 3 ((((jshr x2 15)) &&& 31)))) + ((jshr x2 20)))) ((((jshr x2 7)) &&& 31)) σ) fun r62 => some (r62.1, r62.2))) else (Option.bind (fm_X19_store n ((x1 - 24)) ((((gC σ 20 3 ((((jshr x2 15)) &&& 31)))) + ((((jshl ((jshr x2 25)) 5)) ||| ((((jshr x2 7)) &&& 31)))))) ((gC σ 20 3 ((((jshr x2 20)) &&& 31)))) σ) fun r66 => some (r66.1, r66.2))) else (hl (α := Int32) ((if x1 < 48 then (jshr x2 20) else (gC σ 20 3 ((((jshr x2 20)) &&& 31))))) fun v72 => Option.bind (fm_X19_reckoned x1 ((gC σ 20 3 ((((jshr x2 15)) &&& 31)))) v72 σ) fun r73 => Option.bind (fm_X19_set ((((jshr x2 7)) &&& 31)) r73 σ) fun r77 => some (0, r77))) else (Option.bind (fm_X19_multiplied ((x1 - 64)) ((gC σ 20 3 ((((jshr x2 15)) &&& 31)))) ((gC σ 20 3 ((((jshr x2 20)) &&& 31)))) σ) fun r84 => Option.bind (fm_X19_set ((((jshr x2 7)) &&& 31)) r84 σ) fun r88 => some (0, r88))))
set_option maxRecDepth 20000 in
set_option maxHeartbeats 4000000 in
theorem okX19_perform (l : Launch) (E : hc_E) (A : Nat → Prop) (d : Nat) (n : Nat) (hD : 6 ≤ d) {x1 : Int32} {x2 : Int32} {σ : hc_St} {r : (Int32 × hc_St)} (h : fm_X19_perform n x1 x2 σ = some r) (am : Nat → Nat → Nat) : hc_M l hc_V0 yX19_perform (ws_ yX19_perform cX19_perform 6 (some .int)) d E A [.ref (E.2.1 20), .int x1, .int x2] am [] σ (.inl (some (.int r.1))) r.2 := by
  have hd1 : 1 ≤ d := by omega
  refine hc_enter2 (own := RX19) [(0, .ref (E.2.1 20)), (1, .int x1), (2, .int x2)] pl_X19 rfl hc_V0_st hc_G0_nd rfl (Nat.le_of_ble_eq_true rfl) (fun X hC hem => ?_)
  unfold fm_X19_perform at h
  refine hr_iload_n hC dX19_perform_0 rfl ?_
  refine hr_bipush (v := 7) hC dX19_perform_1 rfl ?_
  refine hr_ishr hC dX19_perform_3 ?_
  refine hr_bipush (v := 31) hC dX19_perform_4 rfl ?_
  refine hr_iand hC dX19_perform_6 ?_
  refine hr_istore_n hC dX19_perform_7 (by decide) ?_
  refine hr_aload_n hC dX19_perform_8 rfl ?_
  refine hr_gA hC F20_3 rfl dX19_perform_9 q923 ?_
  refine hr_iload_n hC dX19_perform_12 rfl ?_
  refine hr_bipush (v := 15) hC dX19_perform_13 rfl ?_
  refine hr_ishr hC dX19_perform_15 ?_
  refine hr_bipush (v := 31) hC dX19_perform_16 rfl ?_
  refine hr_iand hC dX19_perform_18 ?_
  obtain ⟨c1, h⟩ := hk_ok h
  refine hs_iald hC A20_3 c1 dX19_perform_19 ?_
  refine hr_istore hC dX19_perform_20 (by decide) ?_
  refine hr_aload_n hC dX19_perform_22 rfl ?_
  refine hr_gA hC F20_3 rfl dX19_perform_23 q923 ?_
  refine hr_iload_n hC dX19_perform_26 rfl ?_
  refine hr_bipush (v := 20) hC dX19_perform_27 rfl ?_
  refine hr_ishr hC dX19_perform_29 ?_
  refine hr_bipush (v := 31) hC dX19_perform_30 rfl ?_
  refine hr_iand hC dX19_perform_32 ?_
  obtain ⟨c2, h⟩ := hk_ok h
  refine hs_iald hC A20_3 c2 dX19_perform_33 ?_
  refine hr_istore hC dX19_perform_34 (by decide) ?_
  refine hr_iload_n hC dX19_perform_36 rfl ?_
  refine hr_bipush (v := 72) hC dX19_perform_37 rfl ?_
  refine hr_icmp_ge (x := _) hC 47 dX19_perform_39 (by decide) (fun c4 => ?_) (fun c4 => ?_)
  · rw [if_pos c4] at h
    refine hr_aload_n hC dX19_perform_47 rfl ?_
    refine hr_iload_n hC dX19_perform_48 rfl ?_
    refine hr_iload_n hC dX19_perform_49 rfl ?_
    refine hr_iload_n hC dX19_perform_50 rfl ?_
    refine hr_iload hC dX19_perform_51 rfl ?_
    obtain ⟨r5, e6, h⟩ := hx_bind h
    refine hs_callV0 hC 20 [_, _, _, _] _ dX19_perform_53 q2588 q2590 qs162 q333 q2591 np_X19 rfl OB_20 pd_X19_special (Nat.le_of_ble_eq_true rfl) hd1 (okX19_special l E A (d - 1)  (by omega)  e6 am) rfl ?_
    obtain rfl := Option.some.inj h
    exact hr_iret hC dX19_perform_56
  · rw [if_neg c4] at h
    refine hr_iload_n hC dX19_perform_42 rfl ?_
    refine hr_iconst (v := 1) hC dX19_perform_43 rfl ?_
    refine hr_icmp_ne (x := _) hC 57 dX19_perform_44 (by decide) (fun c10 => ?_) (fun c10 => ?_)
    · rw [if_neg c10] at h
      refine hr_iload_n hC dX19_perform_57 rfl ?_
      refine hr_bipush (v := 64) hC dX19_perform_58 rfl ?_
      refine hr_icmp_lt (x := _) hC 81 dX19_perform_60 (by decide) (fun c12 => ?_) (fun c12 => ?_)
      · rw [if_pos c12] at h
        refine hr_iload_n hC dX19_perform_81 rfl ?_
        refine hr_bipush (v := 32) hC dX19_perform_82 rfl ?_
        refine hr_icmp_lt (x := _) hC 115 dX19_perform_84 (by decide) (fun c14 => ?_) (fun c14 => ?_)
        · rw [if_pos c14] at h
          refine hr_iload_n hC dX19_perform_115 rfl ?_
          refine hr_bipush (v := 24) hC dX19_perform_116 rfl ?_
          refine hr_icmp_lt (x := _) hC 143 dX19_perform_118 (by decide) (fun c16 => ?_) (fun c16 => ?_)
          · rw [if_pos c16] at h
            refine hr_iload_n hC dX19_perform_143 rfl ?_
            refine hr_bipush (v := 16) hC dX19_perform_144 rfl ?_
            refine hr_icmp_lt (x := _) hC 166 dX19_perform_146 (by decide) (fun c18 => ?_) (fun c18 => ?_)
            · rw [if_pos c18] at h
              refine hr_iload_n hC dX19_perform_166 rfl ?_
              refine hr_bipush (v := 8) hC dX19_perform_167 rfl ?_
              refine hr_icmp_lt (x := _) hC 205 dX19_perform_169 (by decide) (fun c20 => ?_) (fun c20 => ?_)
              · rw [if_pos c20] at h
                refine hr_iload_n hC dX19_perform_205 rfl ?_
                by_cases c41 : x1 = 2
                · rw [if_pos c41] at h
                  refine hr_tableIn hC 232 dX19_perform_206 (by rw [c41] <;> decide) (by rw [c41] <;> decide) (by rw [c41] <;> rfl) (by decide) ?_
                  refine hr_aload_n hC dX19_perform_232 rfl ?_
                  refine hr_iload_n hC dX19_perform_233 rfl ?_
                  refine hr_iload_n hC dX19_perform_234 rfl ?_
                  refine hr_sipush (v := (-4096)) hC dX19_perform_235 rfl ?_
                  refine hr_iand hC dX19_perform_238 ?_
                  obtain ⟨r25, e26, h⟩ := hx_bind h
                  refine hs_callV0 hC 20 [_, _] _ dX19_perform_239 q2612 q2614 qs164 q333 q2615 np_X19 rfl OB_20 pd_X19_set (Nat.le_of_ble_eq_true rfl) hd1 (okX19_set l E A (d - 1)  (by omega)  e26 am) rfl ?_
                  refine hr_iconst (v := 0) hC dX19_perform_242 rfl ?_
                  obtain rfl := Option.some.inj h
                  exact hr_iret hC dX19_perform_243
                rw [if_neg c41] at h
                by_cases c42 : x1 = 3
                · rw [if_pos c42] at h
                  refine hr_tableIn hC 244 dX19_perform_206 (by rw [c42] <;> decide) (by rw [c42] <;> decide) (by rw [c42] <;> rfl) (by decide) ?_
                  refine hr_aload_n hC dX19_perform_244 rfl ?_
                  refine hr_iload_n hC dX19_perform_245 rfl ?_
                  refine hr_aload_n hC dX19_perform_246 rfl ?_
                  refine hr_gI hC F20_4 dX19_perform_247 q927 ?_
                  refine hr_iload_n hC dX19_perform_250 rfl ?_
                  refine hr_sipush (v := (-4096)) hC dX19_perform_251 rfl ?_
                  refine hr_iand hC dX19_perform_254 ?_
                  refine hr_iadd hC dX19_perform_255 ?_
                  obtain ⟨r29, e30, h⟩ := hx_bind h
                  refine hs_callV0 hC 20 [_, _] _ dX19_perform_256 q2612 q2614 qs164 q333 q2615 np_X19 rfl OB_20 pd_X19_set (Nat.le_of_ble_eq_true rfl) hd1 (okX19_set l E A (d - 1)  (by omega)  e30 am) rfl ?_
                  refine hr_iconst (v := 0) hC dX19_perform_259 rfl ?_
                  obtain rfl := Option.some.inj h
                  exact hr_iret hC dX19_perform_260
                rw [if_neg c42] at h
                by_cases c43 : x1 = 4
                · rw [if_pos c43] at h
                  refine hr_tableIn hC 261 dX19_perform_206 (by rw [c43] <;> decide) (by rw [c43] <;> decide) (by rw [c43] <;> rfl) (by decide) ?_
                  refine hr_aload_n hC dX19_perform_261 rfl ?_
                  refine hr_aload_n hC dX19_perform_262 rfl ?_
                  refine hr_gI hC F20_4 dX19_perform_263 q927 ?_
                  refine hr_iload_n hC dX19_perform_266 rfl ?_
                  obtain ⟨r33, e34, h⟩ := hx_bind h
                  refine hs_callS0 hC [_] _ dX19_perform_267 q2651 q2652 q348 q2653 np_X22 rfl pd_X22_jump (Nat.le_of_ble_eq_true rfl) hd1 (okX22_jump l E A (d - 1)  (by omega)  e34 am) rfl ?_
                  refine hr_iadd hC dX19_perform_270 ?_
                  refine hr_iload_n hC dX19_perform_271 rfl ?_
                  obtain ⟨r37, e38, h⟩ := hx_bind h
                  refine hs_callV0 hC 20 [_, _] _ dX19_perform_272 q2647 q2649 qs167 q333 q2650 np_X19 rfl OB_20 pd_X19_go (Nat.le_of_ble_eq_true rfl) hd1 (okX19_go l E A (d - 1)  (by omega)  e38 am) rfl ?_
                  obtain rfl := Option.some.inj h
                  exact hr_iret hC dX19_perform_275
                rw [if_neg c43] at h
                refine hr_tableD hC 276 dX19_perform_206 (ks := [2, 3, 4]) (hc_l1 (hc_ne c41 rfl) (hc_l1 (hc_ne c42 rfl) (hc_l1 (hc_ne c43 rfl) hc_l0))) (by decide) (by decide) (by decide) ?_
                refine hr_aload_n hC dX19_perform_276 rfl ?_
                refine hr_iload hC dX19_perform_277 rfl ?_
                refine hr_iload_n hC dX19_perform_279 rfl ?_
                refine hr_bipush (v := 20) hC dX19_perform_280 rfl ?_
                refine hr_ishr hC dX19_perform_282 ?_
                refine hr_iadd hC dX19_perform_283 ?_
                refine hr_bipush (v := (-2)) hC dX19_perform_284 rfl ?_
                refine hr_iand hC dX19_perform_286 ?_
                refine hr_iload_n hC dX19_perform_287 rfl ?_
                obtain ⟨r21, e22, h⟩ := hx_bind h
                refine hs_callV0 hC 20 [_, _] _ dX19_perform_288 q2647 q2649 qs167 q333 q2650 np_X19 rfl OB_20 pd_X19_go (Nat.le_of_ble_eq_true rfl) hd1 (okX19_go l E A (d - 1)  (by omega)  e22 am) rfl ?_
                obtain rfl := Option.some.inj h
                exact hr_iret hC dX19_perform_291
              · rw [if_neg c20] at h
                refine hr_iload_n hC dX19_perform_172 rfl ?_
                refine hr_bipush (v := 8) hC dX19_perform_173 rfl ?_
                refine hr_isub hC dX19_perform_175 ?_
                refine hr_iload hC dX19_perform_176 rfl ?_
                refine hr_iload hC dX19_perform_178 rfl ?_
                obtain ⟨r44, e45, h⟩ := hx_bind h
                refine hs_callS0 hC [_, _, _] _ dX19_perform_180 q2641 q2642 q333 q2643 np_X19 rfl pd_X19_isTaken (Nat.le_of_ble_eq_true rfl) hd1 (okX19_isTaken l E A (d - 1)  (by omega)  e45 am) rfl ?_
                obtain ⟨r50, e51, h⟩ := hx_bind h
                have J52 : hc_At hc_V0 E 6 X 204 [] [.int r50.2] r50.1 am [] := by
                  obtain rfl := Option.some.inj h
                  exact hr_iret hC dX19_perform_204
                clear h
                have h := e51
                refine hr_if_eq (x := _) hC 203 dX19_perform_183 (by decide) (fun c49 => ?_) (fun c49 => ?_)
                · rw [if_pos c49] at h
                  refine hr_iconst (v := 0) hC dX19_perform_203 rfl ?_
                  obtain rfl := Option.some.inj h
                  exact hr_sub _ rfl (J52)
                · rw [if_neg c49] at h
                  refine hr_aload_n hC dX19_perform_186 rfl ?_
                  refine hr_aload_n hC dX19_perform_187 rfl ?_
                  refine hr_gI hC F20_4 dX19_perform_188 q927 ?_
                  refine hr_iload_n hC dX19_perform_191 rfl ?_
                  obtain ⟨r54, e55, h⟩ := hx_bind h
                  refine hs_callS0 hC [_] _ dX19_perform_192 q2644 q2645 q348 q2646 np_X22 rfl pd_X22_offset (Nat.le_of_ble_eq_true rfl) hd1 (okX22_offset l E A (d - 1)  (by omega)  e55 am) rfl ?_
                  refine hr_iadd hC dX19_perform_195 ?_
                  refine hr_iconst (v := 0) hC dX19_perform_196 rfl ?_
                  obtain ⟨r58, e59, h⟩ := hx_bind h
                  refine hs_callV0 hC 20 [_, _] _ dX19_perform_197 q2647 q2649 qs167 q333 q2650 np_X19 rfl OB_20 pd_X19_go (Nat.le_of_ble_eq_true rfl) hd1 (okX19_go l E A (d - 1)  (by omega)  e59 am) rfl ?_
                  refine hr_goto hC 204 dX19_perform_200 (by decide) ?_
                  obtain rfl := Option.some.inj h
                  exact hr_sub _ rfl (J52)
            · rw [if_neg c18] at h
              refine hr_aload_n hC dX19_perform_149 rfl ?_
              refine hr_iload_n hC dX19_perform_150 rfl ?_
              refine hr_bipush (v := 16) hC dX19_perform_151 rfl ?_
              refine hr_isub hC dX19_perform_153 ?_
              refine hr_iload hC dX19_perform_154 rfl ?_
              refine hr_iload_n hC dX19_perform_156 rfl ?_
              refine hr_bipush (v := 20) hC dX19_perform_157 rfl ?_
              refine hr_ishr hC dX19_perform_159 ?_
              refine hr_iadd hC dX19_perform_160 ?_
              refine hr_iload_n hC dX19_perform_161 rfl ?_
              obtain ⟨r62, e63, h⟩ := hx_bind h
              refine hs_callV0 hC 20 [_, _, _] _ dX19_perform_162 q2636 q2638 qs166 q333 q2639 np_X19 rfl OB_20 pd_X19_load (Nat.le_of_ble_eq_true rfl) hd1 (okX19_load l E A (d - 1) n (by omega)  e63 am) rfl ?_
              obtain rfl := Option.some.inj h
              exact hr_iret hC dX19_perform_165
          · rw [if_neg c16] at h
            refine hr_aload_n hC dX19_perform_121 rfl ?_
            refine hr_iload_n hC dX19_perform_122 rfl ?_
            refine hr_bipush (v := 24) hC dX19_perform_123 rfl ?_
            refine hr_isub hC dX19_perform_125 ?_
            refine hr_iload hC dX19_perform_126 rfl ?_
            refine hr_iload_n hC dX19_perform_128 rfl ?_
            refine hr_bipush (v := 25) hC dX19_perform_129 rfl ?_
            refine hr_ishr hC dX19_perform_131 ?_
            refine hr_iconst (v := 5) hC dX19_perform_132 rfl ?_
            refine hr_ishl hC dX19_perform_133 ?_
            refine hr_iload_n hC dX19_perform_134 rfl ?_
            refine hr_ior hC dX19_perform_135 ?_
            refine hr_iadd hC dX19_perform_136 ?_
            refine hr_iload hC dX19_perform_137 rfl ?_
            obtain ⟨r66, e67, h⟩ := hx_bind h
            refine hs_callV0 hC 20 [_, _, _] _ dX19_perform_139 q2627 q2629 qs165 q333 q2630 np_X19 rfl OB_20 pd_X19_store (Nat.le_of_ble_eq_true rfl) hd1 (okX19_store l E A (d - 1) n (by omega)  e67 am) rfl ?_
            obtain rfl := Option.some.inj h
            exact hr_iret hC dX19_perform_142
        · rw [if_neg c14] at h
          refine hr_aload_n hC dX19_perform_87 rfl ?_
          refine hr_iload_n hC dX19_perform_88 rfl ?_
          refine hr_iload_n hC dX19_perform_89 rfl ?_
          refine hr_iload hC dX19_perform_90 rfl ?_
          refine hr_iload_n hC dX19_perform_92 rfl ?_
          refine hr_bipush (v := 48) hC dX19_perform_93 rfl ?_
          obtain ⟨v72, hv72, h⟩ := hl_ok h
          have J81 : ∀ w82 : Int32, (if x1 < 48 then (jshr x2 20) else (gC σ 20 3 ((((jshr x2 20)) &&& 31)))) = w82 → hc_At hc_V0 E 6 X 107 [] [.int w82, .int (gC σ 20 3 ((((jshr x2 15)) &&& 31))), .int x1, .int (((jshr x2 7)) &&& 31), .ref (E.2.1 20)] σ am [] := by
            intro w82 hw82
            obtain rfl := hv72.trans hw82
            obtain ⟨r73, e74, h⟩ := hx_bind h
            refine hs_callS0 hC [_, _, _] _ dX19_perform_107 q2620 q2621 q333 q2622 np_X19 rfl pd_X19_reckoned (Nat.le_of_ble_eq_true rfl) hd1 (okX19_reckoned l E A (d - 1)  (by omega)  e74 am) rfl ?_
            obtain ⟨r77, e78, h⟩ := hx_bind h
            refine hs_callV0 hC 20 [_, _] _ dX19_perform_110 q2612 q2614 qs164 q333 q2615 np_X19 rfl OB_20 pd_X19_set (Nat.le_of_ble_eq_true rfl) hd1 (okX19_set l E A (d - 1)  (by omega)  e78 am) rfl ?_
            refine hr_iconst (v := 0) hC dX19_perform_113 rfl ?_
            obtain rfl := Option.some.inj h
            exact hr_iret hC dX19_perform_114
          refine hr_icmp_lt (x := _) hC 103 dX19_perform_95 (by decide) (fun c83 => ?_) (fun c83 => ?_)
          · refine hr_iload_n hC dX19_perform_103 rfl ?_
            refine hr_bipush (v := 20) hC dX19_perform_104 rfl ?_
            refine hr_ishr hC dX19_perform_106 ?_
            exact hr_sub _ rfl (J81 _ (by first | (rw [if_pos c83]; done) | (simp only [if_pos c83]; done) | rfl))
          · refine hr_iload hC dX19_perform_98 rfl ?_
            refine hr_goto hC 107 dX19_perform_100 (by decide) ?_
            exact hr_sub _ rfl (J81 _ (by first | (rw [if_neg c83]; done) | (simp only [if_neg c83]; done) | rfl))
      · rw [if_neg c12] at h
        refine hr_aload_n hC dX19_perform_63 rfl ?_
        refine hr_iload_n hC dX19_perform_64 rfl ?_
        refine hr_iload_n hC dX19_perform_65 rfl ?_
        refine hr_bipush (v := 64) hC dX19_perform_66 rfl ?_
        refine hr_isub hC dX19_perform_68 ?_
        refine hr_iload hC dX19_perform_69 rfl ?_
        refine hr_iload hC dX19_perform_71 rfl ?_
        obtain ⟨r84, e85, h⟩ := hx_bind h
        refine hs_callS0 hC [_, _, _] _ dX19_perform_73 q2616 q2617 q333 q2618 np_X19 rfl pd_X19_multiplied (Nat.le_of_ble_eq_true rfl) hd1 (okX19_multiplied l E A (d - 1)  (by omega)  e85 am) rfl ?_
        obtain ⟨r88, e89, h⟩ := hx_bind h
        refine hs_callV0 hC 20 [_, _] _ dX19_perform_76 q2612 q2614 qs164 q333 q2615 np_X19 rfl OB_20 pd_X19_set (Nat.le_of_ble_eq_true rfl) hd1 (okX19_set l E A (d - 1)  (by omega)  e89 am) rfl ?_
        refine hr_iconst (v := 0) hC dX19_perform_79 rfl ?_
        obtain rfl := Option.some.inj h
        exact hr_iret hC dX19_perform_80
    · rw [if_pos c10] at h
      refine hr_aload_n hC dX19_perform_47 rfl ?_
      refine hr_iload_n hC dX19_perform_48 rfl ?_
      refine hr_iload_n hC dX19_perform_49 rfl ?_
      refine hr_iload_n hC dX19_perform_50 rfl ?_
      refine hr_iload hC dX19_perform_51 rfl ?_
      obtain ⟨r92, e93, h⟩ := hx_bind h
      refine hs_callV0 hC 20 [_, _, _, _] _ dX19_perform_53 q2588 q2590 qs162 q333 q2591 np_X19 rfl OB_20 pd_X19_special (Nat.le_of_ble_eq_true rfl) hd1 (okX19_special l E A (d - 1)  (by omega)  e93 am) rfl ?_
      obtain rfl := Option.some.inj h
      exact hr_iret hC dX19_perform_56
/-- HomeCompiler$Hart.fetch()I -/
def fm_X19_fetch (n : Nat)  (σ : hc_St) : Option (Int32 × hc_St) := if (((gI σ 20 4)) &&& 3) = 0 then (Option.bind (fm_X19_find n ((gI σ 20 4)) 0 σ) fun r3 => if 0 ≤ r3.1 then (hl (pI r3.2 20 6 ((((gI r3.2 20 4)) + 4))) fun σ9 => Option.bind (fm_X17_operation r3.1 σ9) fun r10 => Option.bind (fm_X17_word r3.1 r10.2) fun r14 => Option.bind (fm_X19_perform n r10.1 r14 r10.2) fun r18 => some (r18.1, r18.2)) else (Option.bind (fm_X19_trap ((((-1)) - r3.1)) ((gI r3.2 20 4)) r3.2) fun r22 => some (r22.1, r22.2))) else (Option.bind (fm_X19_trap 0 ((gI σ 20 4)) σ) fun r26 => some (r26.1, r26.2))
set_option maxRecDepth 20000 in
set_option maxHeartbeats 4000000 in
theorem okX19_fetch (l : Launch) (E : hc_E) (A : Nat → Prop) (d : Nat) (n : Nat) (hD : 7 ≤ d)  {σ : hc_St} {r : (Int32 × hc_St)} (h : fm_X19_fetch n  σ = some r) (am : Nat → Nat → Nat) : hc_M l hc_V0 yX19_fetch (ws_ yX19_fetch cX19_fetch 2 (some .int)) d E A [.ref (E.2.1 20)] am [] σ (.inl (some (.int r.1))) r.2 := by
  have hd1 : 1 ≤ d := by omega
  refine hc_enter2 (own := RX19) [(0, .ref (E.2.1 20))] pl_X19 rfl hc_V0_st hc_G0_nd rfl (Nat.le_of_ble_eq_true rfl) (fun X hC hem => ?_)
  unfold fm_X19_fetch at h
  refine hr_aload_n hC dX19_fetch_0 rfl ?_
  refine hr_gI hC F20_4 dX19_fetch_1 q927 ?_
  refine hr_iconst (v := 3) hC dX19_fetch_4 rfl ?_
  refine hr_iand hC dX19_fetch_5 ?_
  refine hr_if_eq (x := _) hC 19 dX19_fetch_6 (by decide) (fun c2 => ?_) (fun c2 => ?_)
  · rw [if_pos c2] at h
    refine hr_aload_n hC dX19_fetch_19 rfl ?_
    refine hr_aload_n hC dX19_fetch_20 rfl ?_
    refine hr_gI hC F20_4 dX19_fetch_21 q927 ?_
    refine hr_iconst (v := 0) hC dX19_fetch_24 rfl ?_
    obtain ⟨r3, e4, h⟩ := hx_bind h
    refine hs_callV0 hC 20 [_, _] _ dX19_fetch_25 q2512 q2513 q2514 q333 q2515 np_X19 rfl OB_20 pd_X19_find (Nat.le_of_ble_eq_true rfl) hd1 (okX19_find l E A (d - 1) n (by omega)  e4 am) rfl ?_
    refine hr_istore_n hC dX19_fetch_28 (by decide) ?_
    refine hr_iload_n hC dX19_fetch_29 rfl ?_
    refine hr_if_ge (x := _) hC 45 dX19_fetch_30 (by decide) (fun c8 => ?_) (fun c8 => ?_)
    · rw [if_pos c8] at h
      refine hr_aload_n hC dX19_fetch_45 rfl ?_
      refine hr_aload_n hC dX19_fetch_46 rfl ?_
      refine hr_gI hC F20_4 dX19_fetch_47 q927 ?_
      refine hr_iconst (v := 4) hC dX19_fetch_50 rfl ?_
      refine hr_iadd hC dX19_fetch_51 ?_
      obtain ⟨σ9, hσ9, h⟩ := hl_ok h
      refine hr_pI hC F20_6 PX19_6 dX19_fetch_52 q930 ?_
      rw [← hσ9]
      refine hr_aload_n hC dX19_fetch_55 rfl ?_
      refine hr_aload_n hC dX19_fetch_56 rfl ?_
      refine hr_gO 18 hC F20_0 rfl dX19_fetch_57 q920 ?_
      refine hr_iload_n hC dX19_fetch_60 rfl ?_
      obtain ⟨r10, e11, h⟩ := hx_bind h
      refine hs_callV0 hC 18 [_] _ dX19_fetch_61 q2567 q2568 q2569 q331 q2570 np_X17 rfl OB_18 pd_X17_operation (Nat.le_of_ble_eq_true rfl) hd1 (okX17_operation l E A (d - 1)  (by omega)  e11 am) rfl ?_
      refine hr_aload_n hC dX19_fetch_64 rfl ?_
      refine hr_gO 18 hC F20_0 rfl dX19_fetch_65 q920 ?_
      refine hr_iload_n hC dX19_fetch_68 rfl ?_
      obtain ⟨r14, e15, h⟩ := hx_bind h
      refine hs_callV0 hC 18 [_] _ dX19_fetch_69 q2583 q2557 q2558 q331 q2559 np_X17 rfl OB_18 pd_X17_word (Nat.le_of_ble_eq_true rfl) hd1 (okX17_word l E A (d - 1)  (by omega)  e15 am) rfl ?_
      obtain ⟨r18, e19, h⟩ := hx_bind h
      refine hs_callV0 hC 20 [_, _] _ dX19_fetch_72 q2584 q2586 qs161 q333 q2587 np_X19 rfl OB_20 pd_X19_perform (Nat.le_of_ble_eq_true rfl) hd1 (okX19_perform l E A (d - 1) n (by omega)  e19 am) rfl ?_
      obtain rfl := Option.some.inj h
      exact hr_iret hC dX19_fetch_75
    · rw [if_neg c8] at h
      refine hr_aload_n hC dX19_fetch_33 rfl ?_
      refine hr_iconst (v := (-1)) hC dX19_fetch_34 rfl ?_
      refine hr_iload_n hC dX19_fetch_35 rfl ?_
      refine hr_isub hC dX19_fetch_36 ?_
      refine hr_aload_n hC dX19_fetch_37 rfl ?_
      refine hr_gI hC F20_4 dX19_fetch_38 q927 ?_
      obtain ⟨r22, e23, h⟩ := hx_bind h
      refine hs_callV0 hC 20 [_, _] _ dX19_fetch_41 q2493 q2495 qs157 q333 q2496 np_X19 rfl OB_20 pd_X19_trap (Nat.le_of_ble_eq_true rfl) hd1 (okX19_trap l E A (d - 1)  (by omega)  e23 am) rfl ?_
      obtain rfl := Option.some.inj h
      exact hr_iret hC dX19_fetch_44
  · rw [if_neg c2] at h
    refine hr_aload_n hC dX19_fetch_9 rfl ?_
    refine hr_iconst (v := 0) hC dX19_fetch_10 rfl ?_
    refine hr_aload_n hC dX19_fetch_11 rfl ?_
    refine hr_gI hC F20_4 dX19_fetch_12 q927 ?_
    obtain ⟨r26, e27, h⟩ := hx_bind h
    refine hs_callV0 hC 20 [_, _] _ dX19_fetch_15 q2493 q2495 qs157 q333 q2496 np_X19 rfl OB_20 pd_X19_trap (Nat.le_of_ble_eq_true rfl) hd1 (okX19_trap l E A (d - 1)  (by omega)  e27 am) rfl ?_
    obtain rfl := Option.some.inj h
    exact hr_iret hC dX19_fetch_18
/-- HomeCompiler$Controls.count()V -/
def fm_X18_count   (σ : hc_St) : Option hc_St := hk (inb 8 (gL σ 19 0)) <| hk (inb 8 (gL σ 19 0)) <| hl (α := Int32) ((if (gC σ 19 0 8) = (-1) then 0 else 1)) fun v5 => hk (inb 8 (gL σ 19 0)) <| hl (pC σ 19 0 8 ((((gC σ 19 0 8)) - v5))) fun σ7 => hk (inb 7 (gL σ7 19 0)) <| hk (inb 7 (gL σ7 19 0)) <| hl (α := Int32) ((if (gC σ7 19 0 7) = (-1) then 0 else 1)) fun v12 => hk (inb 7 (gL σ7 19 0)) <| hl (pC σ7 19 0 7 ((((gC σ7 19 0 7)) - v12))) fun σ14 => some σ14
set_option maxRecDepth 20000 in
set_option maxHeartbeats 4000000 in
theorem okX18_count (l : Launch) (E : hc_E) (A : Nat → Prop) (d : Nat)  (hD : 1 ≤ d)  {σ : hc_St} {r : hc_St} (h : fm_X18_count   σ = some r) (am : Nat → Nat → Nat) : hc_M l hc_V0 yX18_count (ws_ yX18_count cX18_count 1 none) d E A [.ref (E.2.1 19)] am [] σ (.inl none) r := by
  have hd1 : 1 ≤ d := by omega
  refine hc_enter2 (own := RX18) [(0, .ref (E.2.1 19))] pl_X18 rfl hc_V0_st hc_G0_nd rfl (Nat.le_of_ble_eq_true rfl) (fun X hC hem => ?_)
  unfold fm_X18_count at h
  refine hr_aload_n hC dX18_count_0 rfl ?_
  refine hr_gA hC F19_0 rfl dX18_count_1 q888 ?_
  refine hr_bipush (v := 8) hC dX18_count_4 rfl ?_
  refine hr_dup2 hC dX18_count_6 rfl rfl ?_
  obtain ⟨c1, h⟩ := hk_ok h
  refine hs_iald hC A19_0 c1 dX18_count_7 ?_
  refine hr_aload_n hC dX18_count_8 rfl ?_
  refine hr_gA hC F19_0 rfl dX18_count_9 q888 ?_
  refine hr_bipush (v := 8) hC dX18_count_12 rfl ?_
  obtain ⟨c2, h⟩ := hk_ok h
  refine hs_iald hC A19_0 c2 dX18_count_14 ?_
  refine hr_iconst (v := (-1)) hC dX18_count_15 rfl ?_
  obtain ⟨v5, hv5, h⟩ := hl_ok h
  have J18 : ∀ w19 : Int32, (if (gC σ 19 0 8) = (-1) then 0 else 1) = w19 → hc_At hc_V0 E 1 X 24 [(0, .ref (E.2.1 19))] [.int w19, .int (gC σ 19 0 8), .int 8, .ref (am 19 0)] σ am [] := by
    intro w19 hw19
    obtain rfl := hv5.trans hw19
    refine hr_isub hC dX18_count_24 ?_
    obtain ⟨c6, h⟩ := hk_ok h
    obtain ⟨σ7, hσ7, h⟩ := hl_ok h
    refine hs_iast hC A19_0 c6 dX18_count_25 ?_
    rw [← hσ7]
    refine hr_aload_n hC dX18_count_26 rfl ?_
    refine hr_gA hC F19_0 rfl dX18_count_27 q888 ?_
    refine hr_bipush (v := 7) hC dX18_count_30 rfl ?_
    refine hr_dup2 hC dX18_count_32 rfl rfl ?_
    obtain ⟨c8, h⟩ := hk_ok h
    refine hs_iald hC A19_0 c8 dX18_count_33 ?_
    refine hr_aload_n hC dX18_count_34 rfl ?_
    refine hr_gA hC F19_0 rfl dX18_count_35 q888 ?_
    refine hr_bipush (v := 7) hC dX18_count_38 rfl ?_
    obtain ⟨c9, h⟩ := hk_ok h
    refine hs_iald hC A19_0 c9 dX18_count_40 ?_
    refine hr_iconst (v := (-1)) hC dX18_count_41 rfl ?_
    obtain ⟨v12, hv12, h⟩ := hl_ok h
    have J15 : ∀ w16 : Int32, (if (gC σ7 19 0 7) = (-1) then 0 else 1) = w16 → hc_At hc_V0 E 1 X 50 [] [.int w16, .int (gC σ7 19 0 7), .int 7, .ref (am 19 0)] σ7 am [] := by
      intro w16 hw16
      obtain rfl := hv12.trans hw16
      refine hr_isub hC dX18_count_50 ?_
      obtain ⟨c13, h⟩ := hk_ok h
      obtain ⟨σ14, hσ14, h⟩ := hl_ok h
      refine hs_iast hC A19_0 c13 dX18_count_51 ?_
      rw [← hσ14]
      obtain rfl := Option.some.inj h
      exact hr_vret hC dX18_count_52
    refine hr_icmp_ne (x := _) hC 49 dX18_count_42 (by decide) (fun c17 => ?_) (fun c17 => ?_)
    · refine hr_iconst (v := 1) hC dX18_count_49 rfl ?_
      exact hr_sub _ rfl (J15 _ (by first | (rw [if_neg c17]; done) | (simp only [if_neg c17]; done) | rfl))
    · refine hr_iconst (v := 0) hC dX18_count_45 rfl ?_
      refine hr_goto hC 50 dX18_count_46 (by decide) ?_
      exact hr_sub _ rfl (J15 _ (by first | (rw [if_pos c17]; done) | (simp only [if_pos c17]; done) | rfl))
  refine hr_icmp_ne (x := _) hC 23 dX18_count_16 (by decide) (fun c20 => ?_) (fun c20 => ?_)
  · refine hr_iconst (v := 1) hC dX18_count_23 rfl ?_
    exact hr_sub _ rfl (J18 _ (by first | (rw [if_neg c20]; done) | (simp only [if_neg c20]; done) | rfl))
  · refine hr_iconst (v := 0) hC dX18_count_19 rfl ?_
    refine hr_goto hC 24 dX18_count_20 (by decide) ?_
    exact hr_sub _ rfl (J18 _ (by first | (rw [if_pos c20]; done) | (simp only [if_pos c20]; done) | rfl))
