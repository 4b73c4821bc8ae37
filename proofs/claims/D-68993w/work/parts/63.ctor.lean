def nc_X4_init (E : hc_E) (a : Nat) (W0 : va_W) (q : Nat → Nat) : va_W := ((q 0), .inl (E.2.2.1 2, 256, .inl (fun _ => 0))) :: (a, .inr (3, [.ref (q 0), .int 0])) :: W0
set_option maxRecDepth 20000 in
set_option maxHeartbeats 4000000 in
theorem okX4_init (l : Launch) (E : hc_E) (A : Nat → Prop) (d : Nat) (hD : 1 ≤ d) (a : Nat) (W0 : va_W) (c s c0 s0 : Nat) (hc0 : c + 1 = c0) (hs0 : s + 256 = s0) : hn_M l yX4_init (ws_ yX4_init cX4_init 1 none) d E A [.ref a] ((a, .inr (3, [.null, .int 0])) :: W0) c0 s0 none (fun q => nc_X4_init E a W0 q) c s := by
  have hd1 : 1 ≤ d := by omega
  refine hn_enter (own := RX4) [(0, .ref a)] pl_X4 rfl rfl (Nat.le_of_ble_eq_true rfl) (fun X hC hmn => ?_)
  refine hn_aload_n hC dX4_init_0 rfl ?_
  refine hn_obj hC dX4_init_1 q428 q357 q358 hd1 (by simp) ?_
  refine hn_aload_n hC dX4_init_4 rfl ?_
  refine hn_sipush (v := 256) hC dX4_init_5 rfl ?_
  refine hn_newB (c9 := c) (s9 := s) hC 256 dX4_init_8 q416 (by decide) rfl (by decide) (by omega) (by omega) (fun q1 => ?_)
  refine hn_put (C := RX4) (T := TX4) (N := 2) hC 1 0 tyX4 dX4_init_10 q429 in_X4 tyX4_ok nmX4 rfl rfl rfl (by decide) rfl rfl rfl (Nat.le_of_ble_eq_true rfl) ?_
  dsimp only [List.set_cons_zero, List.set_cons_succ]
  exact hn_vret (Y := (l, A, fun _ _ => 0, [])) (F := fun q => nc_X4_init E a W0 q) hC (fun k => ([q1] : List Nat).getD k 0) rfl dX4_init_13
def nc_X2_init (E : hc_E) (a : Nat) (W0 : va_W) (q : Nat → Nat) : va_W := ((q 0), .inl (E.2.2.1 4, 15, .inr (.inr (.inr (.inr (hn_sf E [30, 31, 32, 33, 33, 34, 33, 35, 35, 31, 33, 32, 36, 37, 38])))))) :: ((q 1), .inl (E.2.2.1 4, 15, .inr (.inr (.inr (.inr (hn_sf E [15, 16, 17, 18, 19, 20, 21, 22, 23, 24, 25, 26, 27, 28, 29])))))) :: ((q 2), .inl (E.2.2.1 4, 15, .inr (.inr (.inr (.inr (hn_sf E [0, 1, 2, 3, 4, 5, 6, 7, 8, 9, 10, 11, 12, 13, 14])))))) :: (a, .inr (1, [.ref (q 2), .ref (q 1), .ref (q 0)])) :: W0
set_option maxRecDepth 20000 in
set_option maxHeartbeats 4000000 in
theorem okX2_init (l : Launch) (E : hc_E) (A : Nat → Prop) (d : Nat) (hD : 1 ≤ d) (a : Nat) (W0 : va_W) (c s c0 s0 : Nat) (hc0 : c + 3 = c0) (hs0 : s + 45 = s0) : hn_M l yX2_init (ws_ yX2_init cX2_init 1 none) d E A [.ref a] ((a, .inr (1, [.null, .null, .null])) :: W0) c0 s0 none (fun q => nc_X2_init E a W0 q) c s := by
  have hd1 : 1 ≤ d := by omega
  refine hn_enter (own := RX2) [(0, .ref a)] pl_X2 rfl rfl (Nat.le_of_ble_eq_true rfl) (fun X hC hmn => ?_)
  refine hn_aload_n hC dX2_init_0 rfl ?_
  refine hn_obj hC dX2_init_1 q364 q357 q358 hd1 (by simp) ?_
  refine hn_aload_n hC dX2_init_4 rfl ?_
  refine hn_bipush (v := 15) hC dX2_init_5 rfl ?_
  refine hn_newS (c9 := (c + 2)) (s9 := (s + 30)) hC 15 dX2_init_7 q365 (by decide) rfl (by decide) (by omega) (by omega) (fun q1 => ?_)
  refine hn_dup hC dX2_init_10 rfl ?_
  refine hn_iconst (v := 0) hC dX2_init_11 rfl ?_
  refine hn_ldcs (v := 0) 0 hC dX2_init_12 (List.mem_of_getElem? (i := 0) rfl) ?_
  refine hn_astS (L := []) hC 0 [0] dX2_init_14 rfl rfl (inb_in rfl) (by decide) rfl ?_
  dsimp only [List.set_cons_zero, List.set_cons_succ]
  refine hn_dup hC dX2_init_15 rfl ?_
  refine hn_iconst (v := 1) hC dX2_init_16 rfl ?_
  refine hn_ldcs (v := 0) 1 hC dX2_init_17 (List.mem_of_getElem? (i := 1) rfl) ?_
  refine hn_astS (L := [0]) hC 0 [0, 1] dX2_init_19 rfl rfl (inb_in rfl) (by decide) rfl ?_
  dsimp only [List.set_cons_zero, List.set_cons_succ]
  refine hn_dup hC dX2_init_20 rfl ?_
  refine hn_iconst (v := 2) hC dX2_init_21 rfl ?_
  refine hn_ldcs (v := 0) 2 hC dX2_init_22 (List.mem_of_getElem? (i := 2) rfl) ?_
  refine hn_astS (L := [0, 1]) hC 0 [0, 1, 2] dX2_init_24 rfl rfl (inb_in rfl) (by decide) rfl ?_
  dsimp only [List.set_cons_zero, List.set_cons_succ]
  refine hn_dup hC dX2_init_25 rfl ?_
  refine hn_iconst (v := 3) hC dX2_init_26 rfl ?_
  refine hn_ldcs (v := 0) 3 hC dX2_init_27 (List.mem_of_getElem? (i := 3) rfl) ?_
  refine hn_astS (L := [0, 1, 2]) hC 0 [0, 1, 2, 3] dX2_init_29 rfl rfl (inb_in rfl) (by decide) rfl ?_
  dsimp only [List.set_cons_zero, List.set_cons_succ]
  refine hn_dup hC dX2_init_30 rfl ?_
  refine hn_iconst (v := 4) hC dX2_init_31 rfl ?_
  refine hn_ldcs (v := 0) 4 hC dX2_init_32 (List.mem_of_getElem? (i := 4) rfl) ?_
  refine hn_astS (L := [0, 1, 2, 3]) hC 0 [0, 1, 2, 3, 4] dX2_init_34 rfl rfl (inb_in rfl) (by decide) rfl ?_
  dsimp only [List.set_cons_zero, List.set_cons_succ]
  refine hn_dup hC dX2_init_35 rfl ?_
  refine hn_iconst (v := 5) hC dX2_init_36 rfl ?_
  refine hn_ldcs (v := 0) 5 hC dX2_init_37 (List.mem_of_getElem? (i := 5) rfl) ?_
  refine hn_astS (L := [0, 1, 2, 3, 4]) hC 0 [0, 1, 2, 3, 4, 5] dX2_init_39 rfl rfl (inb_in rfl) (by decide) rfl ?_
  dsimp only [List.set_cons_zero, List.set_cons_succ]
  refine hn_dup hC dX2_init_40 rfl ?_
  refine hn_bipush (v := 6) hC dX2_init_41 rfl ?_
  refine hn_ldcs (v := 0) 6 hC dX2_init_43 (List.mem_of_getElem? (i := 6) rfl) ?_
  refine hn_astS (L := [0, 1, 2, 3, 4, 5]) hC 0 [0, 1, 2, 3, 4, 5, 6] dX2_init_45 rfl rfl (inb_in rfl) (by decide) rfl ?_
  dsimp only [List.set_cons_zero, List.set_cons_succ]
  refine hn_dup hC dX2_init_46 rfl ?_
  refine hn_bipush (v := 7) hC dX2_init_47 rfl ?_
  refine hn_ldcs (v := 0) 7 hC dX2_init_49 (List.mem_of_getElem? (i := 7) rfl) ?_
  refine hn_astS (L := [0, 1, 2, 3, 4, 5, 6]) hC 0 [0, 1, 2, 3, 4, 5, 6, 7] dX2_init_51 rfl rfl (inb_in rfl) (by decide) rfl ?_
  dsimp only [List.set_cons_zero, List.set_cons_succ]
  refine hn_dup hC dX2_init_52 rfl ?_
  refine hn_bipush (v := 8) hC dX2_init_53 rfl ?_
  refine hn_ldcs (v := 0) 8 hC dX2_init_55 (List.mem_of_getElem? (i := 8) rfl) ?_
  refine hn_astS (L := [0, 1, 2, 3, 4, 5, 6, 7]) hC 0 [0, 1, 2, 3, 4, 5, 6, 7, 8] dX2_init_57 rfl rfl (inb_in rfl) (by decide) rfl ?_
  dsimp only [List.set_cons_zero, List.set_cons_succ]
  refine hn_dup hC dX2_init_58 rfl ?_
  refine hn_bipush (v := 9) hC dX2_init_59 rfl ?_
  refine hn_ldcs (v := 0) 9 hC dX2_init_61 (List.mem_of_getElem? (i := 9) rfl) ?_
  refine hn_astS (L := [0, 1, 2, 3, 4, 5, 6, 7, 8]) hC 0 [0, 1, 2, 3, 4, 5, 6, 7, 8, 9] dX2_init_63 rfl rfl (inb_in rfl) (by decide) rfl ?_
  dsimp only [List.set_cons_zero, List.set_cons_succ]
  refine hn_dup hC dX2_init_64 rfl ?_
  refine hn_bipush (v := 10) hC dX2_init_65 rfl ?_
  refine hn_ldcs (v := 0) 10 hC dX2_init_67 (List.mem_of_getElem? (i := 10) rfl) ?_
  refine hn_astS (L := [0, 1, 2, 3, 4, 5, 6, 7, 8, 9]) hC 0 [0, 1, 2, 3, 4, 5, 6, 7, 8, 9, 10] dX2_init_69 rfl rfl (inb_in rfl) (by decide) rfl ?_
  dsimp only [List.set_cons_zero, List.set_cons_succ]
  refine hn_dup hC dX2_init_70 rfl ?_
  refine hn_bipush (v := 11) hC dX2_init_71 rfl ?_
  refine hn_ldcs (v := 0) 11 hC dX2_init_73 (List.mem_of_getElem? (i := 11) rfl) ?_
  refine hn_astS (L := [0, 1, 2, 3, 4, 5, 6, 7, 8, 9, 10]) hC 0 [0, 1, 2, 3, 4, 5, 6, 7, 8, 9, 10, 11] dX2_init_75 rfl rfl (inb_in rfl) (by decide) rfl ?_
  dsimp only [List.set_cons_zero, List.set_cons_succ]
  refine hn_dup hC dX2_init_76 rfl ?_
  refine hn_bipush (v := 12) hC dX2_init_77 rfl ?_
  refine hn_ldcs (v := 0) 12 hC dX2_init_79 (List.mem_of_getElem? (i := 12) rfl) ?_
  refine hn_astS (L := [0, 1, 2, 3, 4, 5, 6, 7, 8, 9, 10, 11]) hC 0 [0, 1, 2, 3, 4, 5, 6, 7, 8, 9, 10, 11, 12] dX2_init_81 rfl rfl (inb_in rfl) (by decide) rfl ?_
  dsimp only [List.set_cons_zero, List.set_cons_succ]
  refine hn_dup hC dX2_init_82 rfl ?_
  refine hn_bipush (v := 13) hC dX2_init_83 rfl ?_
  refine hn_ldcs (v := 0) 13 hC dX2_init_85 (List.mem_of_getElem? (i := 13) rfl) ?_
  refine hn_astS (L := [0, 1, 2, 3, 4, 5, 6, 7, 8, 9, 10, 11, 12]) hC 0 [0, 1, 2, 3, 4, 5, 6, 7, 8, 9, 10, 11, 12, 13] dX2_init_87 rfl rfl (inb_in rfl) (by decide) rfl ?_
  dsimp only [List.set_cons_zero, List.set_cons_succ]
  refine hn_dup hC dX2_init_88 rfl ?_
  refine hn_bipush (v := 14) hC dX2_init_89 rfl ?_
  refine hn_ldcs (v := 0) 14 hC dX2_init_91 (List.mem_of_getElem? (i := 14) rfl) ?_
  refine hn_astS (L := [0, 1, 2, 3, 4, 5, 6, 7, 8, 9, 10, 11, 12, 13]) hC 0 [0, 1, 2, 3, 4, 5, 6, 7, 8, 9, 10, 11, 12, 13, 14] dX2_init_93 rfl rfl (inb_in rfl) (by decide) rfl ?_
  dsimp only [List.set_cons_zero, List.set_cons_succ]
  refine hn_putF (C := RX2) (T := TX2) (N := 3) hC hmn 1 0 tyX2 dX2_init_94 q406 in_X2 tyX2_ok nmX2 rfl rfl rfl rfl (by decide) rfl rfl rfl (Nat.le_of_ble_eq_true rfl) ?_
  dsimp only [List.set_cons_zero, List.set_cons_succ]
  refine hn_aload_n hC dX2_init_97 rfl ?_
  refine hn_bipush (v := 15) hC dX2_init_98 rfl ?_
  refine hn_newS (c9 := (c + 1)) (s9 := (s + 15)) hC 15 dX2_init_100 q365 (by decide) rfl (by decide) (by omega) (by omega) (fun q2 => ?_)
  refine hn_dup hC dX2_init_103 rfl ?_
  refine hn_iconst (v := 0) hC dX2_init_104 rfl ?_
  refine hn_ldcs (v := 0) 15 hC dX2_init_105 (List.mem_of_getElem? (i := 15) rfl) ?_
  refine hn_astS (L := []) hC 0 [15] dX2_init_107 rfl rfl (inb_in rfl) (by decide) rfl ?_
  dsimp only [List.set_cons_zero, List.set_cons_succ]
  refine hn_dup hC dX2_init_108 rfl ?_
  refine hn_iconst (v := 1) hC dX2_init_109 rfl ?_
  refine hn_ldcs (v := 0) 16 hC dX2_init_110 (List.mem_of_getElem? (i := 16) rfl) ?_
  refine hn_astS (L := [15]) hC 0 [15, 16] dX2_init_112 rfl rfl (inb_in rfl) (by decide) rfl ?_
  dsimp only [List.set_cons_zero, List.set_cons_succ]
  refine hn_dup hC dX2_init_113 rfl ?_
  refine hn_iconst (v := 2) hC dX2_init_114 rfl ?_
  refine hn_ldcs (v := 0) 17 hC dX2_init_115 (List.mem_of_getElem? (i := 17) rfl) ?_
  refine hn_astS (L := [15, 16]) hC 0 [15, 16, 17] dX2_init_117 rfl rfl (inb_in rfl) (by decide) rfl ?_
  dsimp only [List.set_cons_zero, List.set_cons_succ]
  refine hn_dup hC dX2_init_118 rfl ?_
  refine hn_iconst (v := 3) hC dX2_init_119 rfl ?_
  refine hn_ldcs (v := 0) 18 hC dX2_init_120 (List.mem_of_getElem? (i := 18) rfl) ?_
  refine hn_astS (L := [15, 16, 17]) hC 0 [15, 16, 17, 18] dX2_init_122 rfl rfl (inb_in rfl) (by decide) rfl ?_
  dsimp only [List.set_cons_zero, List.set_cons_succ]
  refine hn_dup hC dX2_init_123 rfl ?_
  refine hn_iconst (v := 4) hC dX2_init_124 rfl ?_
  refine hn_ldcs (v := 0) 19 hC dX2_init_125 (List.mem_of_getElem? (i := 19) rfl) ?_
  refine hn_astS (L := [15, 16, 17, 18]) hC 0 [15, 16, 17, 18, 19] dX2_init_127 rfl rfl (inb_in rfl) (by decide) rfl ?_
  dsimp only [List.set_cons_zero, List.set_cons_succ]
  refine hn_dup hC dX2_init_128 rfl ?_
  refine hn_iconst (v := 5) hC dX2_init_129 rfl ?_
  refine hn_ldcs (v := 0) 20 hC dX2_init_130 (List.mem_of_getElem? (i := 20) rfl) ?_
  refine hn_astS (L := [15, 16, 17, 18, 19]) hC 0 [15, 16, 17, 18, 19, 20] dX2_init_132 rfl rfl (inb_in rfl) (by decide) rfl ?_
  dsimp only [List.set_cons_zero, List.set_cons_succ]
  refine hn_dup hC dX2_init_133 rfl ?_
  refine hn_bipush (v := 6) hC dX2_init_134 rfl ?_
  refine hn_ldcs (v := 0) 21 hC dX2_init_136 (List.mem_of_getElem? (i := 21) rfl) ?_
  refine hn_astS (L := [15, 16, 17, 18, 19, 20]) hC 0 [15, 16, 17, 18, 19, 20, 21] dX2_init_138 rfl rfl (inb_in rfl) (by decide) rfl ?_
  dsimp only [List.set_cons_zero, List.set_cons_succ]
  refine hn_dup hC dX2_init_139 rfl ?_
  refine hn_bipush (v := 7) hC dX2_init_140 rfl ?_
  refine hn_ldcs (v := 0) 22 hC dX2_init_142 (List.mem_of_getElem? (i := 22) rfl) ?_
  refine hn_astS (L := [15, 16, 17, 18, 19, 20, 21]) hC 0 [15, 16, 17, 18, 19, 20, 21, 22] dX2_init_144 rfl rfl (inb_in rfl) (by decide) rfl ?_
  dsimp only [List.set_cons_zero, List.set_cons_succ]
  refine hn_dup hC dX2_init_145 rfl ?_
  refine hn_bipush (v := 8) hC dX2_init_146 rfl ?_
  refine hn_ldcs (v := 0) 23 hC dX2_init_148 (List.mem_of_getElem? (i := 23) rfl) ?_
  refine hn_astS (L := [15, 16, 17, 18, 19, 20, 21, 22]) hC 0 [15, 16, 17, 18, 19, 20, 21, 22, 23] dX2_init_150 rfl rfl (inb_in rfl) (by decide) rfl ?_
  dsimp only [List.set_cons_zero, List.set_cons_succ]
  refine hn_dup hC dX2_init_151 rfl ?_
  refine hn_bipush (v := 9) hC dX2_init_152 rfl ?_
  refine hn_ldcs (v := 0) 24 hC dX2_init_154 (List.mem_of_getElem? (i := 24) rfl) ?_
  refine hn_astS (L := [15, 16, 17, 18, 19, 20, 21, 22, 23]) hC 0 [15, 16, 17, 18, 19, 20, 21, 22, 23, 24] dX2_init_156 rfl rfl (inb_in rfl) (by decide) rfl ?_
  dsimp only [List.set_cons_zero, List.set_cons_succ]
  refine hn_dup hC dX2_init_157 rfl ?_
  refine hn_bipush (v := 10) hC dX2_init_158 rfl ?_
  refine hn_ldcs (v := 0) 25 hC dX2_init_160 (List.mem_of_getElem? (i := 25) rfl) ?_
  refine hn_astS (L := [15, 16, 17, 18, 19, 20, 21, 22, 23, 24]) hC 0 [15, 16, 17, 18, 19, 20, 21, 22, 23, 24, 25] dX2_init_162 rfl rfl (inb_in rfl) (by decide) rfl ?_
  dsimp only [List.set_cons_zero, List.set_cons_succ]
  refine hn_dup hC dX2_init_163 rfl ?_
  refine hn_bipush (v := 11) hC dX2_init_164 rfl ?_
  refine hn_ldcs (v := 0) 26 hC dX2_init_166 (List.mem_of_getElem? (i := 26) rfl) ?_
  refine hn_astS (L := [15, 16, 17, 18, 19, 20, 21, 22, 23, 24, 25]) hC 0 [15, 16, 17, 18, 19, 20, 21, 22, 23, 24, 25, 26] dX2_init_168 rfl rfl (inb_in rfl) (by decide) rfl ?_
  dsimp only [List.set_cons_zero, List.set_cons_succ]
  refine hn_dup hC dX2_init_169 rfl ?_
  refine hn_bipush (v := 12) hC dX2_init_170 rfl ?_
  refine hn_ldcs (v := 0) 27 hC dX2_init_172 (List.mem_of_getElem? (i := 27) rfl) ?_
  refine hn_astS (L := [15, 16, 17, 18, 19, 20, 21, 22, 23, 24, 25, 26]) hC 0 [15, 16, 17, 18, 19, 20, 21, 22, 23, 24, 25, 26, 27] dX2_init_174 rfl rfl (inb_in rfl) (by decide) rfl ?_
  dsimp only [List.set_cons_zero, List.set_cons_succ]
  refine hn_dup hC dX2_init_175 rfl ?_
  refine hn_bipush (v := 13) hC dX2_init_176 rfl ?_
  refine hn_ldcs (v := 0) 28 hC dX2_init_178 (List.mem_of_getElem? (i := 28) rfl) ?_
  refine hn_astS (L := [15, 16, 17, 18, 19, 20, 21, 22, 23, 24, 25, 26, 27]) hC 0 [15, 16, 17, 18, 19, 20, 21, 22, 23, 24, 25, 26, 27, 28] dX2_init_180 rfl rfl (inb_in rfl) (by decide) rfl ?_
  dsimp only [List.set_cons_zero, List.set_cons_succ]
  refine hn_dup hC dX2_init_181 rfl ?_
  refine hn_bipush (v := 14) hC dX2_init_182 rfl ?_
  refine hn_ldcs (v := 0) 29 hC dX2_init_184 (List.mem_of_getElem? (i := 29) rfl) ?_
  refine hn_astS (L := [15, 16, 17, 18, 19, 20, 21, 22, 23, 24, 25, 26, 27, 28]) hC 0 [15, 16, 17, 18, 19, 20, 21, 22, 23, 24, 25, 26, 27, 28, 29] dX2_init_186 rfl rfl (inb_in rfl) (by decide) rfl ?_
  dsimp only [List.set_cons_zero, List.set_cons_succ]
  refine hn_putF (C := RX2) (T := TX2) (N := 3) hC hmn 2 1 tyX2 dX2_init_187 q407 in_X2 tyX2_ok nmX2 rfl rfl rfl rfl (by decide) rfl rfl rfl (Nat.le_of_ble_eq_true rfl) ?_
  dsimp only [List.set_cons_zero, List.set_cons_succ]
  refine hn_aload_n hC dX2_init_190 rfl ?_
  refine hn_bipush (v := 15) hC dX2_init_191 rfl ?_
  refine hn_newS (c9 := c) (s9 := s) hC 15 dX2_init_193 q365 (by decide) rfl (by decide) (by omega) (by omega) (fun q3 => ?_)
  refine hn_dup hC dX2_init_196 rfl ?_
  refine hn_iconst (v := 0) hC dX2_init_197 rfl ?_
  refine hn_ldcs (v := 0) 30 hC dX2_init_198 (List.mem_of_getElem? (i := 30) rfl) ?_
  refine hn_astS (L := []) hC 0 [30] dX2_init_200 rfl rfl (inb_in rfl) (by decide) rfl ?_
  dsimp only [List.set_cons_zero, List.set_cons_succ]
  refine hn_dup hC dX2_init_201 rfl ?_
  refine hn_iconst (v := 1) hC dX2_init_202 rfl ?_
  refine hn_ldcs (v := 0) 31 hC dX2_init_203 (List.mem_of_getElem? (i := 31) rfl) ?_
  refine hn_astS (L := [30]) hC 0 [30, 31] dX2_init_205 rfl rfl (inb_in rfl) (by decide) rfl ?_
  dsimp only [List.set_cons_zero, List.set_cons_succ]
  refine hn_dup hC dX2_init_206 rfl ?_
  refine hn_iconst (v := 2) hC dX2_init_207 rfl ?_
  refine hn_ldcs (v := 0) 32 hC dX2_init_208 (List.mem_of_getElem? (i := 32) rfl) ?_
  refine hn_astS (L := [30, 31]) hC 0 [30, 31, 32] dX2_init_210 rfl rfl (inb_in rfl) (by decide) rfl ?_
  dsimp only [List.set_cons_zero, List.set_cons_succ]
  refine hn_dup hC dX2_init_211 rfl ?_
  refine hn_iconst (v := 3) hC dX2_init_212 rfl ?_
  refine hn_ldcs (v := 0) 33 hC dX2_init_213 (List.mem_of_getElem? (i := 33) rfl) ?_
  refine hn_astS (L := [30, 31, 32]) hC 0 [30, 31, 32, 33] dX2_init_215 rfl rfl (inb_in rfl) (by decide) rfl ?_
  dsimp only [List.set_cons_zero, List.set_cons_succ]
  refine hn_dup hC dX2_init_216 rfl ?_
  refine hn_iconst (v := 4) hC dX2_init_217 rfl ?_
  refine hn_ldcs (v := 0) 33 hC dX2_init_218 (List.mem_of_getElem? (i := 33) rfl) ?_
  refine hn_astS (L := [30, 31, 32, 33]) hC 0 [30, 31, 32, 33, 33] dX2_init_220 rfl rfl (inb_in rfl) (by decide) rfl ?_
  dsimp only [List.set_cons_zero, List.set_cons_succ]
  refine hn_dup hC dX2_init_221 rfl ?_
  refine hn_iconst (v := 5) hC dX2_init_222 rfl ?_
  refine hn_ldcs (v := 0) 34 hC dX2_init_223 (List.mem_of_getElem? (i := 34) rfl) ?_
  refine hn_astS (L := [30, 31, 32, 33, 33]) hC 0 [30, 31, 32, 33, 33, 34] dX2_init_225 rfl rfl (inb_in rfl) (by decide) rfl ?_
  dsimp only [List.set_cons_zero, List.set_cons_succ]
  refine hn_dup hC dX2_init_226 rfl ?_
  refine hn_bipush (v := 6) hC dX2_init_227 rfl ?_
  refine hn_ldcs (v := 0) 33 hC dX2_init_229 (List.mem_of_getElem? (i := 33) rfl) ?_
  refine hn_astS (L := [30, 31, 32, 33, 33, 34]) hC 0 [30, 31, 32, 33, 33, 34, 33] dX2_init_231 rfl rfl (inb_in rfl) (by decide) rfl ?_
  dsimp only [List.set_cons_zero, List.set_cons_succ]
  refine hn_dup hC dX2_init_232 rfl ?_
  refine hn_bipush (v := 7) hC dX2_init_233 rfl ?_
  refine hn_ldcs (v := 0) 35 hC dX2_init_235 (List.mem_of_getElem? (i := 35) rfl) ?_
  refine hn_astS (L := [30, 31, 32, 33, 33, 34, 33]) hC 0 [30, 31, 32, 33, 33, 34, 33, 35] dX2_init_237 rfl rfl (inb_in rfl) (by decide) rfl ?_
  dsimp only [List.set_cons_zero, List.set_cons_succ]
  refine hn_dup hC dX2_init_238 rfl ?_
  refine hn_bipush (v := 8) hC dX2_init_239 rfl ?_
  refine hn_ldcs (v := 0) 35 hC dX2_init_241 (List.mem_of_getElem? (i := 35) rfl) ?_
  refine hn_astS (L := [30, 31, 32, 33, 33, 34, 33, 35]) hC 0 [30, 31, 32, 33, 33, 34, 33, 35, 35] dX2_init_243 rfl rfl (inb_in rfl) (by decide) rfl ?_
  dsimp only [List.set_cons_zero, List.set_cons_succ]
  refine hn_dup hC dX2_init_244 rfl ?_
  refine hn_bipush (v := 9) hC dX2_init_245 rfl ?_
  refine hn_ldcs (v := 0) 31 hC dX2_init_247 (List.mem_of_getElem? (i := 31) rfl) ?_
  refine hn_astS (L := [30, 31, 32, 33, 33, 34, 33, 35, 35]) hC 0 [30, 31, 32, 33, 33, 34, 33, 35, 35, 31] dX2_init_249 rfl rfl (inb_in rfl) (by decide) rfl ?_
  dsimp only [List.set_cons_zero, List.set_cons_succ]
  refine hn_dup hC dX2_init_250 rfl ?_
  refine hn_bipush (v := 10) hC dX2_init_251 rfl ?_
  refine hn_ldcs (v := 0) 33 hC dX2_init_253 (List.mem_of_getElem? (i := 33) rfl) ?_
  refine hn_astS (L := [30, 31, 32, 33, 33, 34, 33, 35, 35, 31]) hC 0 [30, 31, 32, 33, 33, 34, 33, 35, 35, 31, 33] dX2_init_255 rfl rfl (inb_in rfl) (by decide) rfl ?_
  dsimp only [List.set_cons_zero, List.set_cons_succ]
  refine hn_dup hC dX2_init_256 rfl ?_
  refine hn_bipush (v := 11) hC dX2_init_257 rfl ?_
  refine hn_ldcs (v := 0) 32 hC dX2_init_259 (List.mem_of_getElem? (i := 32) rfl) ?_
  refine hn_astS (L := [30, 31, 32, 33, 33, 34, 33, 35, 35, 31, 33]) hC 0 [30, 31, 32, 33, 33, 34, 33, 35, 35, 31, 33, 32] dX2_init_261 rfl rfl (inb_in rfl) (by decide) rfl ?_
  dsimp only [List.set_cons_zero, List.set_cons_succ]
  refine hn_dup hC dX2_init_262 rfl ?_
  refine hn_bipush (v := 12) hC dX2_init_263 rfl ?_
  refine hn_ldcs (v := 0) 36 hC dX2_init_265 (List.mem_of_getElem? (i := 36) rfl) ?_
  refine hn_astS (L := [30, 31, 32, 33, 33, 34, 33, 35, 35, 31, 33, 32]) hC 0 [30, 31, 32, 33, 33, 34, 33, 35, 35, 31, 33, 32, 36] dX2_init_267 rfl rfl (inb_in rfl) (by decide) rfl ?_
  dsimp only [List.set_cons_zero, List.set_cons_succ]
  refine hn_dup hC dX2_init_268 rfl ?_
  refine hn_bipush (v := 13) hC dX2_init_269 rfl ?_
  refine hn_ldcs (v := 0) 37 hC dX2_init_271 (List.mem_of_getElem? (i := 37) rfl) ?_
  refine hn_astS (L := [30, 31, 32, 33, 33, 34, 33, 35, 35, 31, 33, 32, 36]) hC 0 [30, 31, 32, 33, 33, 34, 33, 35, 35, 31, 33, 32, 36, 37] dX2_init_273 rfl rfl (inb_in rfl) (by decide) rfl ?_
  dsimp only [List.set_cons_zero, List.set_cons_succ]
  refine hn_dup hC dX2_init_274 rfl ?_
  refine hn_bipush (v := 14) hC dX2_init_275 rfl ?_
  refine hn_ldcs (v := 0) 38 hC dX2_init_277 (List.mem_of_getElem? (i := 38) rfl) ?_
  refine hn_astS (L := [30, 31, 32, 33, 33, 34, 33, 35, 35, 31, 33, 32, 36, 37]) hC 0 [30, 31, 32, 33, 33, 34, 33, 35, 35, 31, 33, 32, 36, 37, 38] dX2_init_279 rfl rfl (inb_in rfl) (by decide) rfl ?_
  dsimp only [List.set_cons_zero, List.set_cons_succ]
  refine hn_putF (C := RX2) (T := TX2) (N := 3) hC hmn 3 2 tyX2 dX2_init_280 q408 in_X2 tyX2_ok nmX2 rfl rfl rfl rfl (by decide) rfl rfl rfl (Nat.le_of_ble_eq_true rfl) ?_
  dsimp only [List.set_cons_zero, List.set_cons_succ]
  exact hn_vret (Y := (l, A, fun _ _ => 0, [])) (F := fun q => nc_X2_init E a W0 q) hC (fun k => ([q3, q2, q1] : List Nat).getD k 0) rfl dX2_init_283
def nc_X3_init (E : hc_E) (a : Nat) (W0 : va_W) (q : Nat → Nat) : va_W := ((q 0), .inl (E.2.2.1 1, 256, .inl (fun _ => 0))) :: ((q 1), .inl (E.2.2.1 1, 64, .inl (fun _ => 0))) :: ((q 2), .inl (E.2.2.1 1, 64, .inl (fun _ => 0))) :: ((q 3), .inl (E.2.2.1 1, 64, .inl (fun _ => 0))) :: ((q 4), .inl (E.2.2.1 2, 256, .inl (fun _ => 0))) :: ((q 5), .inr (3, [.ref (q 4), .int 0])) :: (a, .inr (2, [.ref (q 5), .ref (q 3), .ref (q 2), .ref (q 1), .int 0, .ref (q 0)])) :: W0
set_option maxRecDepth 20000 in
set_option maxHeartbeats 4000000 in
theorem okX3_init (l : Launch) (E : hc_E) (A : Nat → Prop) (d : Nat) (hD : 2 ≤ d) (a : Nat) (W0 : va_W) (c s c0 s0 : Nat) (hc0 : c + 6 = c0) (hs0 : s + 706 = s0) : hn_M l yX3_init (ws_ yX3_init cX3_init 1 none) d E A [.ref a] ((a, .inr (2, [.null, .null, .null, .null, .int 0, .null])) :: W0) c0 s0 none (fun q => nc_X3_init E a W0 q) c s := by
  have hd1 : 1 ≤ d := by omega
  refine hn_enter (own := RX3) [(0, .ref a)] pl_X3 rfl rfl (Nat.le_of_ble_eq_true rfl) (fun X hC hmn => ?_)
  refine hn_aload_n hC dX3_init_0 rfl ?_
  refine hn_obj hC dX3_init_1 q422 q357 q358 hd1 (by simp) ?_
  refine hn_aload_n hC dX3_init_4 rfl ?_
  refine hn_new (c9 := (c + 5)) (s9 := (s + 704)) (ci := 3) (fs := [.null, .int 0]) hC tyX4 dX3_init_5 tyX4_ok in_X4 q423 q424 q318 rfl (by decide +kernel) (by omega) (by omega) (fun q1 => ?_)
  refine hn_dup hC dX3_init_8 rfl ?_
  refine hn_callIN hC q1 [] [.ref q1, .ref a] dX3_init_9 (List.mem_of_getElem? (i := 7) rfl) q426 q318 q427 np_X4 rfl pd_X4_init (Nat.le_of_ble_eq_true rfl) hd1 (okX4_init l E A (d - 1) (by omega) q1 _ (c + 4) (s + 448) _ _ (by omega) (by omega)) rfl (fun r2 => ?_)
  dsimp only [nc_X4_init]
  refine hn_putF (C := RX3) (T := TX3) (N := 6) hC hmn 2 0 tyX3 dX3_init_12 q436 in_X3 tyX3_ok nmX3 rfl rfl rfl rfl (by decide) rfl rfl rfl (Nat.le_of_ble_eq_true rfl) ?_
  dsimp only [List.set_cons_zero, List.set_cons_succ]
  refine hn_aload_n hC dX3_init_15 rfl ?_
  refine hn_bipush (v := 64) hC dX3_init_16 rfl ?_
  refine hn_newI (c9 := (c + 3)) (s9 := (s + 384)) hC 64 dX3_init_18 q455 (by decide) rfl (by decide) (by omega) (by omega) (fun q3 => ?_)
  refine hn_put (C := RX3) (T := TX3) (N := 6) hC 3 1 tyX3 dX3_init_20 q437 in_X3 tyX3_ok nmX3 rfl rfl rfl (by decide) rfl rfl rfl (Nat.le_of_ble_eq_true rfl) ?_
  dsimp only [List.set_cons_zero, List.set_cons_succ]
  refine hn_aload_n hC dX3_init_23 rfl ?_
  refine hn_bipush (v := 64) hC dX3_init_24 rfl ?_
  refine hn_newI (c9 := (c + 2)) (s9 := (s + 320)) hC 64 dX3_init_26 q455 (by decide) rfl (by decide) (by omega) (by omega) (fun q4 => ?_)
  refine hn_put (C := RX3) (T := TX3) (N := 6) hC 4 2 tyX3 dX3_init_28 q438 in_X3 tyX3_ok nmX3 rfl rfl rfl (by decide) rfl rfl rfl (Nat.le_of_ble_eq_true rfl) ?_
  dsimp only [List.set_cons_zero, List.set_cons_succ]
  refine hn_aload_n hC dX3_init_31 rfl ?_
  refine hn_bipush (v := 64) hC dX3_init_32 rfl ?_
  refine hn_newI (c9 := (c + 1)) (s9 := (s + 256)) hC 64 dX3_init_34 q455 (by decide) rfl (by decide) (by omega) (by omega) (fun q5 => ?_)
  refine hn_put (C := RX3) (T := TX3) (N := 6) hC 5 3 tyX3 dX3_init_36 q439 in_X3 tyX3_ok nmX3 rfl rfl rfl (by decide) rfl rfl rfl (Nat.le_of_ble_eq_true rfl) ?_
  dsimp only [List.set_cons_zero, List.set_cons_succ]
  refine hn_aload_n hC dX3_init_39 rfl ?_
  refine hn_sipush (v := 256) hC dX3_init_40 rfl ?_
  refine hn_newI (c9 := c) (s9 := s) hC 256 dX3_init_43 q455 (by decide) rfl (by decide) (by omega) (by omega) (fun q6 => ?_)
  refine hn_putF (C := RX3) (T := TX3) (N := 6) hC hmn 6 5 tyX3 dX3_init_45 q441 in_X3 tyX3_ok nmX3 rfl rfl rfl rfl (by decide) rfl rfl rfl (Nat.le_of_ble_eq_true rfl) ?_
  dsimp only [List.set_cons_zero, List.set_cons_succ]
  exact hn_vret (Y := (l, A, fun _ _ => 0, [])) (F := fun q => nc_X3_init E a W0 q) hC (fun k => ([q6, q5, q4, q3, (r2 0), q1] : List Nat).getD k 0) rfl dX3_init_48
def nc_X5_init (E : hc_E) (a : Nat) (b0 : Nat) (b1 : Nat) (b2 : Nat) (W0 : va_W) (q : Nat → Nat) : va_W := ((q 0), .inl (E.2.2.1 4, 20, .inr (.inr (.inr (.inr (hn_sf E [122, 123, 124, 125, 126, 127, 128, 129, 130, 131, 132, 133, 134, 135, 136, 137, 138, 139, 140, 141])))))) :: (a, .inr (4, [.ref b0, .ref b1, .ref b2, .ref (q 0), .null, .int 0, .int 0, .int 0, .int 0, .int 0, .int 0])) :: W0
set_option maxRecDepth 20000 in
set_option maxHeartbeats 4000000 in
theorem okX5_init (l : Launch) (E : hc_E) (A : Nat → Prop) (d : Nat) (hD : 1 ≤ d) (a : Nat) (b0 : Nat) (b1 : Nat) (b2 : Nat) (W0 : va_W) (c s c0 s0 : Nat) (hc0 : c + 1 = c0) (hs0 : s + 20 = s0) : hn_M l yX5_init (ws_ yX5_init cX5_init 4 none) d E A [.ref a, .ref b0, .ref b1, .ref b2] ((a, .inr (4, [.null, .null, .null, .null, .null, .int 0, .int 0, .int 0, .int 0, .int 0, .int 0])) :: W0) c0 s0 none (fun q => nc_X5_init E a b0 b1 b2 W0 q) c s := by
  have hd1 : 1 ≤ d := by omega
  refine hn_enter (own := RX5) [(0, .ref a), (1, .ref b0), (2, .ref b1), (3, .ref b2)] pl_X5 rfl rfl (Nat.le_of_ble_eq_true rfl) (fun X hC hmn => ?_)
  refine hn_aload_n hC dX5_init_0 rfl ?_
  refine hn_obj hC dX5_init_1 q463 q357 q358 hd1 (by simp) ?_
  refine hn_aload_n hC dX5_init_4 rfl ?_
  refine hn_bipush (v := 20) hC dX5_init_5 rfl ?_
  refine hn_newS (c9 := c) (s9 := s) hC 20 dX5_init_7 q464 (by decide) rfl (by decide) (by omega) (by omega) (fun q1 => ?_)
  refine hn_dup hC dX5_init_10 rfl ?_
  refine hn_iconst (v := 0) hC dX5_init_11 rfl ?_
  refine hn_ldcs (v := 0) 122 hC dX5_init_12 (List.mem_of_getElem? (i := 122) rfl) ?_
  refine hn_astS (L := []) hC 0 [122] dX5_init_14 rfl rfl (inb_in rfl) (by decide) rfl ?_
  dsimp only [List.set_cons_zero, List.set_cons_succ]
  refine hn_dup hC dX5_init_15 rfl ?_
  refine hn_iconst (v := 1) hC dX5_init_16 rfl ?_
  refine hn_ldcs (v := 0) 123 hC dX5_init_17 (List.mem_of_getElem? (i := 123) rfl) ?_
  refine hn_astS (L := [122]) hC 0 [122, 123] dX5_init_19 rfl rfl (inb_in rfl) (by decide) rfl ?_
  dsimp only [List.set_cons_zero, List.set_cons_succ]
  refine hn_dup hC dX5_init_20 rfl ?_
  refine hn_iconst (v := 2) hC dX5_init_21 rfl ?_
  refine hn_ldcs (v := 0) 124 hC dX5_init_22 (List.mem_of_getElem? (i := 124) rfl) ?_
  refine hn_astS (L := [122, 123]) hC 0 [122, 123, 124] dX5_init_24 rfl rfl (inb_in rfl) (by decide) rfl ?_
  dsimp only [List.set_cons_zero, List.set_cons_succ]
  refine hn_dup hC dX5_init_25 rfl ?_
  refine hn_iconst (v := 3) hC dX5_init_26 rfl ?_
  refine hn_ldcs (v := 0) 125 hC dX5_init_27 (List.mem_of_getElem? (i := 125) rfl) ?_
  refine hn_astS (L := [122, 123, 124]) hC 0 [122, 123, 124, 125] dX5_init_29 rfl rfl (inb_in rfl) (by decide) rfl ?_
  dsimp only [List.set_cons_zero, List.set_cons_succ]
  refine hn_dup hC dX5_init_30 rfl ?_
  refine hn_iconst (v := 4) hC dX5_init_31 rfl ?_
  refine hn_ldcs (v := 0) 126 hC dX5_init_32 (List.mem_of_getElem? (i := 126) rfl) ?_
  refine hn_astS (L := [122, 123, 124, 125]) hC 0 [122, 123, 124, 125, 126] dX5_init_34 rfl rfl (inb_in rfl) (by decide) rfl ?_
  dsimp only [List.set_cons_zero, List.set_cons_succ]
  refine hn_dup hC dX5_init_35 rfl ?_
  refine hn_iconst (v := 5) hC dX5_init_36 rfl ?_
  refine hn_ldcs (v := 0) 127 hC dX5_init_37 (List.mem_of_getElem? (i := 127) rfl) ?_
  refine hn_astS (L := [122, 123, 124, 125, 126]) hC 0 [122, 123, 124, 125, 126, 127] dX5_init_39 rfl rfl (inb_in rfl) (by decide) rfl ?_
  dsimp only [List.set_cons_zero, List.set_cons_succ]
  refine hn_dup hC dX5_init_40 rfl ?_
  refine hn_bipush (v := 6) hC dX5_init_41 rfl ?_
  refine hn_ldcs (v := 0) 128 hC dX5_init_43 (List.mem_of_getElem? (i := 128) rfl) ?_
  refine hn_astS (L := [122, 123, 124, 125, 126, 127]) hC 0 [122, 123, 124, 125, 126, 127, 128] dX5_init_45 rfl rfl (inb_in rfl) (by decide) rfl ?_
  dsimp only [List.set_cons_zero, List.set_cons_succ]
  refine hn_dup hC dX5_init_46 rfl ?_
  refine hn_bipush (v := 7) hC dX5_init_47 rfl ?_
  refine hn_ldcs (v := 0) 129 hC dX5_init_49 (List.mem_of_getElem? (i := 129) rfl) ?_
  refine hn_astS (L := [122, 123, 124, 125, 126, 127, 128]) hC 0 [122, 123, 124, 125, 126, 127, 128, 129] dX5_init_51 rfl rfl (inb_in rfl) (by decide) rfl ?_
  dsimp only [List.set_cons_zero, List.set_cons_succ]
  refine hn_dup hC dX5_init_52 rfl ?_
  refine hn_bipush (v := 8) hC dX5_init_53 rfl ?_
  refine hn_ldcs (v := 0) 130 hC dX5_init_55 (List.mem_of_getElem? (i := 130) rfl) ?_
  refine hn_astS (L := [122, 123, 124, 125, 126, 127, 128, 129]) hC 0 [122, 123, 124, 125, 126, 127, 128, 129, 130] dX5_init_57 rfl rfl (inb_in rfl) (by decide) rfl ?_
  dsimp only [List.set_cons_zero, List.set_cons_succ]
  refine hn_dup hC dX5_init_58 rfl ?_
  refine hn_bipush (v := 9) hC dX5_init_59 rfl ?_
  refine hn_ldcs (v := 0) 131 hC dX5_init_61 (List.mem_of_getElem? (i := 131) rfl) ?_
  refine hn_astS (L := [122, 123, 124, 125, 126, 127, 128, 129, 130]) hC 0 [122, 123, 124, 125, 126, 127, 128, 129, 130, 131] dX5_init_63 rfl rfl (inb_in rfl) (by decide) rfl ?_
  dsimp only [List.set_cons_zero, List.set_cons_succ]
  refine hn_dup hC dX5_init_64 rfl ?_
  refine hn_bipush (v := 10) hC dX5_init_65 rfl ?_
  refine hn_ldcs (v := 0) 132 hC dX5_init_67 (List.mem_of_getElem? (i := 132) rfl) ?_
  refine hn_astS (L := [122, 123, 124, 125, 126, 127, 128, 129, 130, 131]) hC 0 [122, 123, 124, 125, 126, 127, 128, 129, 130, 131, 132] dX5_init_69 rfl rfl (inb_in rfl) (by decide) rfl ?_
  dsimp only [List.set_cons_zero, List.set_cons_succ]
  refine hn_dup hC dX5_init_70 rfl ?_
  refine hn_bipush (v := 11) hC dX5_init_71 rfl ?_
  refine hn_ldcs (v := 0) 133 hC dX5_init_73 (List.mem_of_getElem? (i := 133) rfl) ?_
  refine hn_astS (L := [122, 123, 124, 125, 126, 127, 128, 129, 130, 131, 132]) hC 0 [122, 123, 124, 125, 126, 127, 128, 129, 130, 131, 132, 133] dX5_init_75 rfl rfl (inb_in rfl) (by decide) rfl ?_
  dsimp only [List.set_cons_zero, List.set_cons_succ]
  refine hn_dup hC dX5_init_76 rfl ?_
  refine hn_bipush (v := 12) hC dX5_init_77 rfl ?_
  refine hn_ldcs (v := 0) 134 hC dX5_init_79 (List.mem_of_getElem? (i := 134) rfl) ?_
  refine hn_astS (L := [122, 123, 124, 125, 126, 127, 128, 129, 130, 131, 132, 133]) hC 0 [122, 123, 124, 125, 126, 127, 128, 129, 130, 131, 132, 133, 134] dX5_init_81 rfl rfl (inb_in rfl) (by decide) rfl ?_
  dsimp only [List.set_cons_zero, List.set_cons_succ]
  refine hn_dup hC dX5_init_82 rfl ?_
  refine hn_bipush (v := 13) hC dX5_init_83 rfl ?_
  refine hn_ldcs (v := 0) 135 hC dX5_init_85 (List.mem_of_getElem? (i := 135) rfl) ?_
  refine hn_astS (L := [122, 123, 124, 125, 126, 127, 128, 129, 130, 131, 132, 133, 134]) hC 0 [122, 123, 124, 125, 126, 127, 128, 129, 130, 131, 132, 133, 134, 135] dX5_init_87 rfl rfl (inb_in rfl) (by decide) rfl ?_
  dsimp only [List.set_cons_zero, List.set_cons_succ]
  refine hn_dup hC dX5_init_88 rfl ?_
  refine hn_bipush (v := 14) hC dX5_init_89 rfl ?_
  refine hn_ldcs (v := 0) 136 hC dX5_init_91 (List.mem_of_getElem? (i := 136) rfl) ?_
  refine hn_astS (L := [122, 123, 124, 125, 126, 127, 128, 129, 130, 131, 132, 133, 134, 135]) hC 0 [122, 123, 124, 125, 126, 127, 128, 129, 130, 131, 132, 133, 134, 135, 136] dX5_init_93 rfl rfl (inb_in rfl) (by decide) rfl ?_
  dsimp only [List.set_cons_zero, List.set_cons_succ]
  refine hn_dup hC dX5_init_94 rfl ?_
  refine hn_bipush (v := 15) hC dX5_init_95 rfl ?_
  refine hn_ldcs (v := 0) 137 hC dX5_init_97 (List.mem_of_getElem? (i := 137) rfl) ?_
  refine hn_astS (L := [122, 123, 124, 125, 126, 127, 128, 129, 130, 131, 132, 133, 134, 135, 136]) hC 0 [122, 123, 124, 125, 126, 127, 128, 129, 130, 131, 132, 133, 134, 135, 136, 137] dX5_init_99 rfl rfl (inb_in rfl) (by decide) rfl ?_
  dsimp only [List.set_cons_zero, List.set_cons_succ]
  refine hn_dup hC dX5_init_100 rfl ?_
  refine hn_bipush (v := 16) hC dX5_init_101 rfl ?_
  refine hn_ldcs (v := 0) 138 hC dX5_init_103 (List.mem_of_getElem? (i := 138) rfl) ?_
  refine hn_astS (L := [122, 123, 124, 125, 126, 127, 128, 129, 130, 131, 132, 133, 134, 135, 136, 137]) hC 0 [122, 123, 124, 125, 126, 127, 128, 129, 130, 131, 132, 133, 134, 135, 136, 137, 138] dX5_init_105 rfl rfl (inb_in rfl) (by decide) rfl ?_
  dsimp only [List.set_cons_zero, List.set_cons_succ]
  refine hn_dup hC dX5_init_106 rfl ?_
  refine hn_bipush (v := 17) hC dX5_init_107 rfl ?_
  refine hn_ldcs (v := 0) 139 hC dX5_init_109 (List.mem_of_getElem? (i := 139) rfl) ?_
  refine hn_astS (L := [122, 123, 124, 125, 126, 127, 128, 129, 130, 131, 132, 133, 134, 135, 136, 137, 138]) hC 0 [122, 123, 124, 125, 126, 127, 128, 129, 130, 131, 132, 133, 134, 135, 136, 137, 138, 139] dX5_init_111 rfl rfl (inb_in rfl) (by decide) rfl ?_
  dsimp only [List.set_cons_zero, List.set_cons_succ]
  refine hn_dup hC dX5_init_112 rfl ?_
  refine hn_bipush (v := 18) hC dX5_init_113 rfl ?_
  refine hn_ldcs (v := 0) 140 hC dX5_init_115 (List.mem_of_getElem? (i := 140) rfl) ?_
  refine hn_astS (L := [122, 123, 124, 125, 126, 127, 128, 129, 130, 131, 132, 133, 134, 135, 136, 137, 138, 139]) hC 0 [122, 123, 124, 125, 126, 127, 128, 129, 130, 131, 132, 133, 134, 135, 136, 137, 138, 139, 140] dX5_init_117 rfl rfl (inb_in rfl) (by decide) rfl ?_
  dsimp only [List.set_cons_zero, List.set_cons_succ]
  refine hn_dup hC dX5_init_118 rfl ?_
  refine hn_bipush (v := 19) hC dX5_init_119 rfl ?_
  refine hn_ldcs (v := 0) 141 hC dX5_init_121 (List.mem_of_getElem? (i := 141) rfl) ?_
  refine hn_astS (L := [122, 123, 124, 125, 126, 127, 128, 129, 130, 131, 132, 133, 134, 135, 136, 137, 138, 139, 140]) hC 0 [122, 123, 124, 125, 126, 127, 128, 129, 130, 131, 132, 133, 134, 135, 136, 137, 138, 139, 140, 141] dX5_init_123 rfl rfl (inb_in rfl) (by decide) rfl ?_
  dsimp only [List.set_cons_zero, List.set_cons_succ]
  refine hn_putF (C := RX5) (T := TX5) (N := 11) hC hmn 1 3 tyX5 dX5_init_124 q488 in_X5 tyX5_ok nmX5 rfl rfl rfl rfl (by decide) rfl rfl rfl (Nat.le_of_ble_eq_true rfl) ?_
  dsimp only [List.set_cons_zero, List.set_cons_succ]
  refine hn_aload_n hC dX5_init_127 rfl ?_
  refine hn_aload_n hC dX5_init_128 rfl ?_
  refine hn_putF (C := RX5) (T := TX5) (N := 11) hC hmn 1 0 tyX5 dX5_init_129 q485 in_X5 tyX5_ok nmX5 rfl rfl rfl rfl (by decide) rfl rfl rfl (Nat.le_of_ble_eq_true rfl) ?_
  dsimp only [List.set_cons_zero, List.set_cons_succ]
  refine hn_aload_n hC dX5_init_132 rfl ?_
  refine hn_aload_n hC dX5_init_133 rfl ?_
  refine hn_putF (C := RX5) (T := TX5) (N := 11) hC hmn 1 1 tyX5 dX5_init_134 q486 in_X5 tyX5_ok nmX5 rfl rfl rfl rfl (by decide) rfl rfl rfl (Nat.le_of_ble_eq_true rfl) ?_
  dsimp only [List.set_cons_zero, List.set_cons_succ]
  refine hn_aload_n hC dX5_init_137 rfl ?_
  refine hn_aload_n hC dX5_init_138 rfl ?_
  refine hn_putF (C := RX5) (T := TX5) (N := 11) hC hmn 1 2 tyX5 dX5_init_139 q487 in_X5 tyX5_ok nmX5 rfl rfl rfl rfl (by decide) rfl rfl rfl (Nat.le_of_ble_eq_true rfl) ?_
  dsimp only [List.set_cons_zero, List.set_cons_succ]
  exact hn_vret (Y := (l, A, fun _ _ => 0, [])) (F := fun q => nc_X5_init E a b0 b1 b2 W0 q) hC (fun k => ([q1] : List Nat).getD k 0) rfl dX5_init_142
def nc_X6_init (E : hc_E) (a : Nat) (W0 : va_W) (q : Nat → Nat) : va_W := ((q 0), .inl (E.2.2.1 1, 256, .inl (fun _ => 0))) :: ((q 1), .inl (E.2.2.1 1, 256, .inl (fun _ => 0))) :: ((q 2), .inl (E.2.2.1 1, 256, .inl (fun _ => 0))) :: ((q 3), .inl (E.2.2.1 1, 256, .inl (fun _ => 0))) :: ((q 4), .inl (E.2.2.1 1, 256, .inl (fun _ => 0))) :: ((q 5), .inl (E.2.2.1 1, 256, .inl (fun _ => 0))) :: ((q 6), .inl (E.2.2.1 1, 256, .inl (fun _ => 0))) :: ((q 7), .inl (E.2.2.1 1, 256, .inl (fun _ => 0))) :: ((q 8), .inl (E.2.2.1 1, 256, .inl (fun _ => 0))) :: ((q 9), .inl (E.2.2.1 1, 256, .inl (fun _ => 0))) :: (a, .inr (5, [.ref (q 9), .ref (q 8), .ref (q 7), .ref (q 6), .ref (q 5), .ref (q 4), .ref (q 3), .ref (q 2), .ref (q 1), .ref (q 0), .int 0])) :: W0
set_option maxRecDepth 20000 in
set_option maxHeartbeats 4000000 in
theorem okX6_init (l : Launch) (E : hc_E) (A : Nat → Prop) (d : Nat) (hD : 1 ≤ d) (a : Nat) (W0 : va_W) (c s c0 s0 : Nat) (hc0 : c + 10 = c0) (hs0 : s + 2560 = s0) : hn_M l yX6_init (ws_ yX6_init cX6_init 1 none) d E A [.ref a] ((a, .inr (5, [.null, .null, .null, .null, .null, .null, .null, .null, .null, .null, .int 0])) :: W0) c0 s0 none (fun q => nc_X6_init E a W0 q) c s := by
  have hd1 : 1 ≤ d := by omega
  refine hn_enter (own := RX6) [(0, .ref a)] pl_X6 rfl rfl (Nat.le_of_ble_eq_true rfl) (fun X hC hmn => ?_)
  refine hn_aload_n hC dX6_init_0 rfl ?_
  refine hn_obj hC dX6_init_1 q524 q357 q358 hd1 (by simp) ?_
  refine hn_aload_n hC dX6_init_4 rfl ?_
  refine hn_sipush (v := 256) hC dX6_init_5 rfl ?_
  refine hn_newI (c9 := (c + 9)) (s9 := (s + 2304)) hC 256 dX6_init_8 q455 (by decide) rfl (by decide) (by omega) (by omega) (fun q1 => ?_)
  refine hn_put (C := RX6) (T := TX6) (N := 11) hC 1 0 tyX6 dX6_init_10 q525 in_X6 tyX6_ok nmX6 rfl rfl rfl (by decide) rfl rfl rfl (Nat.le_of_ble_eq_true rfl) ?_
  dsimp only [List.set_cons_zero, List.set_cons_succ]
  refine hn_aload_n hC dX6_init_13 rfl ?_
  refine hn_sipush (v := 256) hC dX6_init_14 rfl ?_
  refine hn_newI (c9 := (c + 8)) (s9 := (s + 2048)) hC 256 dX6_init_17 q455 (by decide) rfl (by decide) (by omega) (by omega) (fun q2 => ?_)
  refine hn_put (C := RX6) (T := TX6) (N := 11) hC 2 1 tyX6 dX6_init_19 q526 in_X6 tyX6_ok nmX6 rfl rfl rfl (by decide) rfl rfl rfl (Nat.le_of_ble_eq_true rfl) ?_
  dsimp only [List.set_cons_zero, List.set_cons_succ]
  refine hn_aload_n hC dX6_init_22 rfl ?_
  refine hn_sipush (v := 256) hC dX6_init_23 rfl ?_
  refine hn_newI (c9 := (c + 7)) (s9 := (s + 1792)) hC 256 dX6_init_26 q455 (by decide) rfl (by decide) (by omega) (by omega) (fun q3 => ?_)
  refine hn_put (C := RX6) (T := TX6) (N := 11) hC 3 2 tyX6 dX6_init_28 q527 in_X6 tyX6_ok nmX6 rfl rfl rfl (by decide) rfl rfl rfl (Nat.le_of_ble_eq_true rfl) ?_
  dsimp only [List.set_cons_zero, List.set_cons_succ]
  refine hn_aload_n hC dX6_init_31 rfl ?_
  refine hn_sipush (v := 256) hC dX6_init_32 rfl ?_
  refine hn_newI (c9 := (c + 6)) (s9 := (s + 1536)) hC 256 dX6_init_35 q455 (by decide) rfl (by decide) (by omega) (by omega) (fun q4 => ?_)
  refine hn_put (C := RX6) (T := TX6) (N := 11) hC 4 3 tyX6 dX6_init_37 q528 in_X6 tyX6_ok nmX6 rfl rfl rfl (by decide) rfl rfl rfl (Nat.le_of_ble_eq_true rfl) ?_
  dsimp only [List.set_cons_zero, List.set_cons_succ]
  refine hn_aload_n hC dX6_init_40 rfl ?_
  refine hn_sipush (v := 256) hC dX6_init_41 rfl ?_
  refine hn_newI (c9 := (c + 5)) (s9 := (s + 1280)) hC 256 dX6_init_44 q455 (by decide) rfl (by decide) (by omega) (by omega) (fun q5 => ?_)
  refine hn_put (C := RX6) (T := TX6) (N := 11) hC 5 4 tyX6 dX6_init_46 q529 in_X6 tyX6_ok nmX6 rfl rfl rfl (by decide) rfl rfl rfl (Nat.le_of_ble_eq_true rfl) ?_
  dsimp only [List.set_cons_zero, List.set_cons_succ]
  refine hn_aload_n hC dX6_init_49 rfl ?_
  refine hn_sipush (v := 256) hC dX6_init_50 rfl ?_
  refine hn_newI (c9 := (c + 4)) (s9 := (s + 1024)) hC 256 dX6_init_53 q455 (by decide) rfl (by decide) (by omega) (by omega) (fun q6 => ?_)
  refine hn_put (C := RX6) (T := TX6) (N := 11) hC 6 5 tyX6 dX6_init_55 q530 in_X6 tyX6_ok nmX6 rfl rfl rfl (by decide) rfl rfl rfl (Nat.le_of_ble_eq_true rfl) ?_
  dsimp only [List.set_cons_zero, List.set_cons_succ]
  refine hn_aload_n hC dX6_init_58 rfl ?_
  refine hn_sipush (v := 256) hC dX6_init_59 rfl ?_
  refine hn_newI (c9 := (c + 3)) (s9 := (s + 768)) hC 256 dX6_init_62 q455 (by decide) rfl (by decide) (by omega) (by omega) (fun q7 => ?_)
  refine hn_put (C := RX6) (T := TX6) (N := 11) hC 7 6 tyX6 dX6_init_64 q531 in_X6 tyX6_ok nmX6 rfl rfl rfl (by decide) rfl rfl rfl (Nat.le_of_ble_eq_true rfl) ?_
  dsimp only [List.set_cons_zero, List.set_cons_succ]
  refine hn_aload_n hC dX6_init_67 rfl ?_
  refine hn_sipush (v := 256) hC dX6_init_68 rfl ?_
  refine hn_newI (c9 := (c + 2)) (s9 := (s + 512)) hC 256 dX6_init_71 q455 (by decide) rfl (by decide) (by omega) (by omega) (fun q8 => ?_)
  refine hn_put (C := RX6) (T := TX6) (N := 11) hC 8 7 tyX6 dX6_init_73 q532 in_X6 tyX6_ok nmX6 rfl rfl rfl (by decide) rfl rfl rfl (Nat.le_of_ble_eq_true rfl) ?_
  dsimp only [List.set_cons_zero, List.set_cons_succ]
  refine hn_aload_n hC dX6_init_76 rfl ?_
  refine hn_sipush (v := 256) hC dX6_init_77 rfl ?_
  refine hn_newI (c9 := (c + 1)) (s9 := (s + 256)) hC 256 dX6_init_80 q455 (by decide) rfl (by decide) (by omega) (by omega) (fun q9 => ?_)
  refine hn_put (C := RX6) (T := TX6) (N := 11) hC 9 8 tyX6 dX6_init_82 q533 in_X6 tyX6_ok nmX6 rfl rfl rfl (by decide) rfl rfl rfl (Nat.le_of_ble_eq_true rfl) ?_
  dsimp only [List.set_cons_zero, List.set_cons_succ]
  refine hn_aload_n hC dX6_init_85 rfl ?_
  refine hn_sipush (v := 256) hC dX6_init_86 rfl ?_
  refine hn_newI (c9 := c) (s9 := s) hC 256 dX6_init_89 q455 (by decide) rfl (by decide) (by omega) (by omega) (fun q10 => ?_)
  refine hn_put (C := RX6) (T := TX6) (N := 11) hC 10 9 tyX6 dX6_init_91 q534 in_X6 tyX6_ok nmX6 rfl rfl rfl (by decide) rfl rfl rfl (Nat.le_of_ble_eq_true rfl) ?_
  dsimp only [List.set_cons_zero, List.set_cons_succ]
  exact hn_vret (Y := (l, A, fun _ _ => 0, [])) (F := fun q => nc_X6_init E a W0 q) hC (fun k => ([q10, q9, q8, q7, q6, q5, q4, q3, q2, q1] : List Nat).getD k 0) rfl dX6_init_94
def nc_X7_init (E : hc_E) (a : Nat) (b0 : Nat) (b1 : Nat) (W0 : va_W) (q : Nat → Nat) : va_W := ((q 0), .inl (E.2.2.1 1, 1024, .inl (fun _ => 0))) :: ((q 1), .inl (E.2.2.1 1, 1024, .inl (fun _ => 0))) :: (a, .inr (6, [.ref b0, .ref b1, .int 0, .ref (q 1), .ref (q 0), .int 0])) :: W0
set_option maxRecDepth 20000 in
set_option maxHeartbeats 4000000 in
theorem okX7_init (l : Launch) (E : hc_E) (A : Nat → Prop) (d : Nat) (hD : 1 ≤ d) (a : Nat) (b0 : Nat) (b1 : Nat) (W0 : va_W) (c s c0 s0 : Nat) (hc0 : c + 2 = c0) (hs0 : s + 2048 = s0) : hn_M l yX7_init (ws_ yX7_init cX7_init 3 none) d E A [.ref a, .ref b0, .ref b1] ((a, .inr (6, [.null, .null, .int 0, .null, .null, .int 0])) :: W0) c0 s0 none (fun q => nc_X7_init E a b0 b1 W0 q) c s := by
  have hd1 : 1 ≤ d := by omega
  refine hn_enter (own := RX7) [(0, .ref a), (1, .ref b0), (2, .ref b1)] pl_X7 rfl rfl (Nat.le_of_ble_eq_true rfl) (fun X hC hmn => ?_)
  refine hn_aload_n hC dX7_init_0 rfl ?_
  refine hn_obj hC dX7_init_1 q564 q357 q358 hd1 (by simp) ?_
  refine hn_aload_n hC dX7_init_4 rfl ?_
  refine hn_sipush (v := 1024) hC dX7_init_5 rfl ?_
  refine hn_newI (c9 := (c + 1)) (s9 := (s + 1024)) hC 1024 dX7_init_8 q455 (by decide) rfl (by decide) (by omega) (by omega) (fun q1 => ?_)
  refine hn_putF (C := RX7) (T := TX7) (N := 6) hC hmn 1 3 tyX7 dX7_init_10 q568 in_X7 tyX7_ok nmX7 rfl rfl rfl rfl (by decide) rfl rfl rfl (Nat.le_of_ble_eq_true rfl) ?_
  dsimp only [List.set_cons_zero, List.set_cons_succ]
  refine hn_aload_n hC dX7_init_13 rfl ?_
  refine hn_sipush (v := 1024) hC dX7_init_14 rfl ?_
  refine hn_newI (c9 := c) (s9 := s) hC 1024 dX7_init_17 q455 (by decide) rfl (by decide) (by omega) (by omega) (fun q2 => ?_)
  refine hn_putF (C := RX7) (T := TX7) (N := 6) hC hmn 2 4 tyX7 dX7_init_19 q569 in_X7 tyX7_ok nmX7 rfl rfl rfl rfl (by decide) rfl rfl rfl (Nat.le_of_ble_eq_true rfl) ?_
  dsimp only [List.set_cons_zero, List.set_cons_succ]
  refine hn_aload_n hC dX7_init_22 rfl ?_
  refine hn_aload_n hC dX7_init_23 rfl ?_
  refine hn_putF (C := RX7) (T := TX7) (N := 6) hC hmn 2 0 tyX7 dX7_init_24 q565 in_X7 tyX7_ok nmX7 rfl rfl rfl rfl (by decide) rfl rfl rfl (Nat.le_of_ble_eq_true rfl) ?_
  dsimp only [List.set_cons_zero, List.set_cons_succ]
  refine hn_aload_n hC dX7_init_27 rfl ?_
  refine hn_aload_n hC dX7_init_28 rfl ?_
  refine hn_putF (C := RX7) (T := TX7) (N := 6) hC hmn 2 1 tyX7 dX7_init_29 q566 in_X7 tyX7_ok nmX7 rfl rfl rfl rfl (by decide) rfl rfl rfl (Nat.le_of_ble_eq_true rfl) ?_
  dsimp only [List.set_cons_zero, List.set_cons_succ]
  exact hn_vret (Y := (l, A, fun _ _ => 0, [])) (F := fun q => nc_X7_init E a b0 b1 W0 q) hC (fun k => ([q2, q1] : List Nat).getD k 0) rfl dX7_init_32
def nc_X9_init (E : hc_E) (a : Nat) (W0 : va_W) (q : Nat → Nat) : va_W := (a, .inr (8, [.int 0, .int 0])) :: W0
set_option maxRecDepth 20000 in
set_option maxHeartbeats 4000000 in
theorem okX9_init (l : Launch) (E : hc_E) (A : Nat → Prop) (d : Nat) (hD : 1 ≤ d) (a : Nat) (W0 : va_W) (c s c0 s0 : Nat) (hc0 : c + 0 = c0) (hs0 : s + 0 = s0) : hn_M l yX9_init (ws_ yX9_init cX9_init 1 none) d E A [.ref a] ((a, .inr (8, [.int 0, .int 0])) :: W0) c0 s0 none (fun q => nc_X9_init E a W0 q) c s := by
  have hd1 : 1 ≤ d := by omega
  refine hn_enter (own := RX9) [(0, .ref a)] pl_X9 rfl rfl (Nat.le_of_ble_eq_true rfl) (fun X hC hmn => ?_)
  obtain rfl : c = c0 := hc0
  obtain rfl : s = s0 := hs0
  refine hn_aload_n hC dX9_init_0 rfl ?_
  refine hn_obj hC dX9_init_1 q595 q357 q358 hd1 (by simp) ?_
  exact hn_vret (Y := (l, A, fun _ _ => 0, [])) (F := fun q => nc_X9_init E a W0 q) hC (fun k => ([] : List Nat).getD k 0) rfl dX9_init_4
def nc_X10_init (E : hc_E) (a : Nat) (W0 : va_W) (q : Nat → Nat) : va_W := ((q 0), .inl (E.2.2.1 1, 200, .inl (fun _ => 0))) :: ((q 1), .inl (E.2.2.1 1, 256, .inl (fun _ => 0))) :: ((q 2), .inl (E.2.2.1 1, 256, .inl (fun _ => 0))) :: ((q 3), .inl (E.2.2.1 1, 256, .inl (fun _ => 0))) :: ((q 4), .inl (E.2.2.1 1, 256, .inl (fun _ => 0))) :: ((q 5), .inl (E.2.2.1 1, 256, .inl (fun _ => 0))) :: (a, .inr (9, [.ref (q 5), .ref (q 4), .ref (q 3), .ref (q 2), .int 0, .ref (q 1), .ref (q 0), .int 0])) :: W0
set_option maxRecDepth 20000 in
set_option maxHeartbeats 4000000 in
theorem okX10_init (l : Launch) (E : hc_E) (A : Nat → Prop) (d : Nat) (hD : 1 ≤ d) (a : Nat) (W0 : va_W) (c s c0 s0 : Nat) (hc0 : c + 6 = c0) (hs0 : s + 1480 = s0) : hn_M l yX10_init (ws_ yX10_init cX10_init 1 none) d E A [.ref a] ((a, .inr (9, [.null, .null, .null, .null, .int 0, .null, .null, .int 0])) :: W0) c0 s0 none (fun q => nc_X10_init E a W0 q) c s := by
  have hd1 : 1 ≤ d := by omega
  refine hn_enter (own := RX10) [(0, .ref a)] pl_X10 rfl rfl (Nat.le_of_ble_eq_true rfl) (fun X hC hmn => ?_)
  refine hn_aload_n hC dX10_init_0 rfl ?_
  refine hn_obj hC dX10_init_1 q608 q357 q358 hd1 (by simp) ?_
  refine hn_aload_n hC dX10_init_4 rfl ?_
  refine hn_sipush (v := 256) hC dX10_init_5 rfl ?_
  refine hn_newI (c9 := (c + 5)) (s9 := (s + 1224)) hC 256 dX10_init_8 q455 (by decide) rfl (by decide) (by omega) (by omega) (fun q1 => ?_)
  refine hn_put (C := RX10) (T := TX10) (N := 8) hC 1 0 tyX10 dX10_init_10 q609 in_X10 tyX10_ok nmX10 rfl rfl rfl (by decide) rfl rfl rfl (Nat.le_of_ble_eq_true rfl) ?_
  dsimp only [List.set_cons_zero, List.set_cons_succ]
  refine hn_aload_n hC dX10_init_13 rfl ?_
  refine hn_sipush (v := 256) hC dX10_init_14 rfl ?_
  refine hn_newI (c9 := (c + 4)) (s9 := (s + 968)) hC 256 dX10_init_17 q455 (by decide) rfl (by decide) (by omega) (by omega) (fun q2 => ?_)
  refine hn_put (C := RX10) (T := TX10) (N := 8) hC 2 1 tyX10 dX10_init_19 q610 in_X10 tyX10_ok nmX10 rfl rfl rfl (by decide) rfl rfl rfl (Nat.le_of_ble_eq_true rfl) ?_
  dsimp only [List.set_cons_zero, List.set_cons_succ]
  refine hn_aload_n hC dX10_init_22 rfl ?_
  refine hn_sipush (v := 256) hC dX10_init_23 rfl ?_
  refine hn_newI (c9 := (c + 3)) (s9 := (s + 712)) hC 256 dX10_init_26 q455 (by decide) rfl (by decide) (by omega) (by omega) (fun q3 => ?_)
  refine hn_put (C := RX10) (T := TX10) (N := 8) hC 3 2 tyX10 dX10_init_28 q611 in_X10 tyX10_ok nmX10 rfl rfl rfl (by decide) rfl rfl rfl (Nat.le_of_ble_eq_true rfl) ?_
  dsimp only [List.set_cons_zero, List.set_cons_succ]
  refine hn_aload_n hC dX10_init_31 rfl ?_
  refine hn_sipush (v := 256) hC dX10_init_32 rfl ?_
  refine hn_newI (c9 := (c + 2)) (s9 := (s + 456)) hC 256 dX10_init_35 q455 (by decide) rfl (by decide) (by omega) (by omega) (fun q4 => ?_)
  refine hn_put (C := RX10) (T := TX10) (N := 8) hC 4 3 tyX10 dX10_init_37 q612 in_X10 tyX10_ok nmX10 rfl rfl rfl (by decide) rfl rfl rfl (Nat.le_of_ble_eq_true rfl) ?_
  dsimp only [List.set_cons_zero, List.set_cons_succ]
  refine hn_aload_n hC dX10_init_40 rfl ?_
  refine hn_sipush (v := 256) hC dX10_init_41 rfl ?_
  refine hn_newI (c9 := (c + 1)) (s9 := (s + 200)) hC 256 dX10_init_44 q455 (by decide) rfl (by decide) (by omega) (by omega) (fun q5 => ?_)
  refine hn_put (C := RX10) (T := TX10) (N := 8) hC 5 5 tyX10 dX10_init_46 q614 in_X10 tyX10_ok nmX10 rfl rfl rfl (by decide) rfl rfl rfl (Nat.le_of_ble_eq_true rfl) ?_
  dsimp only [List.set_cons_zero, List.set_cons_succ]
  refine hn_aload_n hC dX10_init_49 rfl ?_
  refine hn_sipush (v := 200) hC dX10_init_50 rfl ?_
  refine hn_newI (c9 := c) (s9 := s) hC 200 dX10_init_53 q455 (by decide) rfl (by decide) (by omega) (by omega) (fun q6 => ?_)
  refine hn_putF (C := RX10) (T := TX10) (N := 8) hC hmn 6 6 tyX10 dX10_init_55 q615 in_X10 tyX10_ok nmX10 rfl rfl rfl rfl (by decide) rfl rfl rfl (Nat.le_of_ble_eq_true rfl) ?_
  dsimp only [List.set_cons_zero, List.set_cons_succ]
  exact hn_vret (Y := (l, A, fun _ _ => 0, [])) (F := fun q => nc_X10_init E a W0 q) hC (fun k => ([q6, q5, q4, q3, q2, q1] : List Nat).getD k 0) rfl dX10_init_58
def nc_X11_init (E : hc_E) (a : Nat) (W0 : va_W) (q : Nat → Nat) : va_W := ((q 0), .inl (E.2.2.1 1, 64, .inl (fun _ => 0))) :: ((q 1), .inl (E.2.2.1 1, 256, .inl (fun _ => 0))) :: ((q 2), .inl (E.2.2.1 1, 256, .inl (fun _ => 0))) :: ((q 3), .inl (E.2.2.1 1, 256, .inl (fun _ => 0))) :: (a, .inr (10, [.ref (q 3), .ref (q 2), .ref (q 1), .int 0, .ref (q 0), .int 0])) :: W0
set_option maxRecDepth 20000 in
set_option maxHeartbeats 4000000 in
theorem okX11_init (l : Launch) (E : hc_E) (A : Nat → Prop) (d : Nat) (hD : 1 ≤ d) (a : Nat) (W0 : va_W) (c s c0 s0 : Nat) (hc0 : c + 4 = c0) (hs0 : s + 832 = s0) : hn_M l yX11_init (ws_ yX11_init cX11_init 1 none) d E A [.ref a] ((a, .inr (10, [.null, .null, .null, .int 0, .null, .int 0])) :: W0) c0 s0 none (fun q => nc_X11_init E a W0 q) c s := by
  have hd1 : 1 ≤ d := by omega
  refine hn_enter (own := RX11) [(0, .ref a)] pl_X11 rfl rfl (Nat.le_of_ble_eq_true rfl) (fun X hC hmn => ?_)
  refine hn_aload_n hC dX11_init_0 rfl ?_
  refine hn_obj hC dX11_init_1 q639 q357 q358 hd1 (by simp) ?_
  refine hn_aload_n hC dX11_init_4 rfl ?_
  refine hn_sipush (v := 256) hC dX11_init_5 rfl ?_
  refine hn_newI (c9 := (c + 3)) (s9 := (s + 576)) hC 256 dX11_init_8 q455 (by decide) rfl (by decide) (by omega) (by omega) (fun q1 => ?_)
  refine hn_put (C := RX11) (T := TX11) (N := 6) hC 1 0 tyX11 dX11_init_10 q640 in_X11 tyX11_ok nmX11 rfl rfl rfl (by decide) rfl rfl rfl (Nat.le_of_ble_eq_true rfl) ?_
  dsimp only [List.set_cons_zero, List.set_cons_succ]
  refine hn_aload_n hC dX11_init_13 rfl ?_
  refine hn_sipush (v := 256) hC dX11_init_14 rfl ?_
  refine hn_newI (c9 := (c + 2)) (s9 := (s + 320)) hC 256 dX11_init_17 q455 (by decide) rfl (by decide) (by omega) (by omega) (fun q2 => ?_)
  refine hn_put (C := RX11) (T := TX11) (N := 6) hC 2 1 tyX11 dX11_init_19 q641 in_X11 tyX11_ok nmX11 rfl rfl rfl (by decide) rfl rfl rfl (Nat.le_of_ble_eq_true rfl) ?_
  dsimp only [List.set_cons_zero, List.set_cons_succ]
  refine hn_aload_n hC dX11_init_22 rfl ?_
  refine hn_sipush (v := 256) hC dX11_init_23 rfl ?_
  refine hn_newI (c9 := (c + 1)) (s9 := (s + 64)) hC 256 dX11_init_26 q455 (by decide) rfl (by decide) (by omega) (by omega) (fun q3 => ?_)
  refine hn_put (C := RX11) (T := TX11) (N := 6) hC 3 2 tyX11 dX11_init_28 q642 in_X11 tyX11_ok nmX11 rfl rfl rfl (by decide) rfl rfl rfl (Nat.le_of_ble_eq_true rfl) ?_
  dsimp only [List.set_cons_zero, List.set_cons_succ]
  refine hn_aload_n hC dX11_init_31 rfl ?_
  refine hn_bipush (v := 64) hC dX11_init_32 rfl ?_
  refine hn_newI (c9 := c) (s9 := s) hC 64 dX11_init_34 q455 (by decide) rfl (by decide) (by omega) (by omega) (fun q4 => ?_)
  refine hn_put (C := RX11) (T := TX11) (N := 6) hC 4 4 tyX11 dX11_init_36 q644 in_X11 tyX11_ok nmX11 rfl rfl rfl (by decide) rfl rfl rfl (Nat.le_of_ble_eq_true rfl) ?_
  dsimp only [List.set_cons_zero, List.set_cons_succ]
  exact hn_vret (Y := (l, A, fun _ _ => 0, [])) (F := fun q => nc_X11_init E a W0 q) hC (fun k => ([q4, q3, q2, q1] : List Nat).getD k 0) rfl dX11_init_39
def nc_X8_init (E : hc_E) (a : Nat) (b0 : Nat) (b1 : Nat) (b2 : Nat) (W0 : va_W) (q : Nat → Nat) : va_W := ((q 0), .inl (E.2.2.1 1, 64, .inl (fun _ => 0))) :: ((q 1), .inl (E.2.2.1 1, 64, .inl (fun _ => 0))) :: ((q 2), .inl (E.2.2.1 2, 256, .inl (fun _ => 0))) :: ((q 3), .inr (3, [.ref (q 2), .int 0])) :: ((q 4), .inl (E.2.2.1 1, 64, .inl (fun _ => 0))) :: ((q 5), .inl (E.2.2.1 1, 256, .inl (fun _ => 0))) :: ((q 6), .inl (E.2.2.1 1, 256, .inl (fun _ => 0))) :: ((q 7), .inl (E.2.2.1 1, 256, .inl (fun _ => 0))) :: ((q 8), .inr (10, [.ref (q 7), .ref (q 6), .ref (q 5), .int 0, .ref (q 4), .int 0])) :: ((q 9), .inl (E.2.2.1 1, 200, .inl (fun _ => 0))) :: ((q 10), .inl (E.2.2.1 1, 256, .inl (fun _ => 0))) :: ((q 11), .inl (E.2.2.1 1, 256, .inl (fun _ => 0))) :: ((q 12), .inl (E.2.2.1 1, 256, .inl (fun _ => 0))) :: ((q 13), .inl (E.2.2.1 1, 256, .inl (fun _ => 0))) :: ((q 14), .inl (E.2.2.1 1, 256, .inl (fun _ => 0))) :: ((q 15), .inr (9, [.ref (q 14), .ref (q 13), .ref (q 12), .ref (q 11), .int 0, .ref (q 10), .ref (q 9), .int 0])) :: ((q 16), .inr (8, [.int 0, .int 0])) :: (a, .inr (7, [.ref b0, .ref b1, .ref b2, .ref (q 16), .ref (q 15), .ref (q 8), .ref (q 3), .ref (q 1), .ref (q 0), .int 0, .int 0, .int 0, .int 0, .int 0, .int 0, .int 0])) :: W0
set_option maxRecDepth 20000 in
set_option maxHeartbeats 4000000 in
theorem okX8_init (l : Launch) (E : hc_E) (A : Nat → Prop) (d : Nat) (hD : 2 ≤ d) (a : Nat) (b0 : Nat) (b1 : Nat) (b2 : Nat) (W0 : va_W) (c s c0 s0 : Nat) (hc0 : c + 17 = c0) (hs0 : s + 2714 = s0) : hn_M l yX8_init (ws_ yX8_init cX8_init 4 none) d E A [.ref a, .ref b0, .ref b1, .ref b2] ((a, .inr (7, [.null, .null, .null, .null, .null, .null, .null, .null, .null, .int 0, .int 0, .int 0, .int 0, .int 0, .int 0, .int 0])) :: W0) c0 s0 none (fun q => nc_X8_init E a b0 b1 b2 W0 q) c s := by
  have hd1 : 1 ≤ d := by omega
  refine hn_enter (own := RX8) [(0, .ref a), (1, .ref b0), (2, .ref b1), (3, .ref b2)] pl_X8 rfl rfl (Nat.le_of_ble_eq_true rfl) (fun X hC hmn => ?_)
  refine hn_aload_n hC dX8_init_0 rfl ?_
  refine hn_obj hC dX8_init_1 q589 q357 q358 hd1 (by simp) ?_
  refine hn_aload_n hC dX8_init_4 rfl ?_
  refine hn_new (c9 := (c + 16)) (s9 := (s + 2712)) (ci := 8) (fs := [.int 0, .int 0]) hC tyX9 dX8_init_5 tyX9_ok in_X9 q590 q591 q323 rfl (by decide +kernel) (by omega) (by omega) (fun q1 => ?_)
  refine hn_dup hC dX8_init_8 rfl ?_
  refine hn_callIN hC q1 [] [.ref q1, .ref a] dX8_init_9 (List.mem_of_getElem? (i := 8) rfl) q593 q323 q594 np_X9 rfl pd_X9_init (Nat.le_of_ble_eq_true rfl) hd1 (okX9_init l E A (d - 1) (by omega) q1 _ (c + 16) (s + 2712) _ _ (by omega) (by omega)) rfl (fun r2 => ?_)
  dsimp only [nc_X9_init]
  refine hn_putF (C := RX8) (T := TX8) (N := 16) hC hmn 1 3 tyX8 dX8_init_12 q664 in_X8 tyX8_ok nmX8 rfl rfl rfl rfl (by decide) rfl rfl rfl (Nat.le_of_ble_eq_true rfl) ?_
  dsimp only [List.set_cons_zero, List.set_cons_succ]
  refine hn_aload_n hC dX8_init_15 rfl ?_
  refine hn_new (c9 := (c + 15)) (s9 := (s + 2704)) (ci := 9) (fs := [.null, .null, .null, .null, .int 0, .null, .null, .int 0]) hC tyX10 dX8_init_16 tyX10_ok in_X10 q603 q604 q324 rfl (by decide +kernel) (by omega) (by omega) (fun q3 => ?_)
  refine hn_dup hC dX8_init_19 rfl ?_
  refine hn_callIN hC q3 [] [.ref q3, .ref a] dX8_init_20 (List.mem_of_getElem? (i := 9) rfl) q606 q324 q607 np_X10 rfl pd_X10_init (Nat.le_of_ble_eq_true rfl) hd1 (okX10_init l E A (d - 1) (by omega) q3 _ (c + 9) (s + 1224) _ _ (by omega) (by omega)) rfl (fun r4 => ?_)
  dsimp only [nc_X10_init]
  refine hn_putF (C := RX8) (T := TX8) (N := 16) hC hmn 8 4 tyX8 dX8_init_23 q665 in_X8 tyX8_ok nmX8 rfl rfl rfl rfl (by decide) rfl rfl rfl (Nat.le_of_ble_eq_true rfl) ?_
  dsimp only [List.set_cons_zero, List.set_cons_succ]
  refine hn_aload_n hC dX8_init_26 rfl ?_
  refine hn_new (c9 := (c + 8)) (s9 := (s + 1218)) (ci := 10) (fs := [.null, .null, .null, .int 0, .null, .int 0]) hC tyX11 dX8_init_27 tyX11_ok in_X11 q634 q635 q325 rfl (by decide +kernel) (by omega) (by omega) (fun q5 => ?_)
  refine hn_dup hC dX8_init_30 rfl ?_
  refine hn_callIN hC q5 [] [.ref q5, .ref a] dX8_init_31 (List.mem_of_getElem? (i := 10) rfl) q637 q325 q638 np_X11 rfl pd_X11_init (Nat.le_of_ble_eq_true rfl) hd1 (okX11_init l E A (d - 1) (by omega) q5 _ (c + 4) (s + 386) _ _ (by omega) (by omega)) rfl (fun r6 => ?_)
  dsimp only [nc_X11_init]
  refine hn_putF (C := RX8) (T := TX8) (N := 16) hC hmn 13 5 tyX8 dX8_init_34 q666 in_X8 tyX8_ok nmX8 rfl rfl rfl rfl (by decide) rfl rfl rfl (Nat.le_of_ble_eq_true rfl) ?_
  dsimp only [List.set_cons_zero, List.set_cons_succ]
  refine hn_aload_n hC dX8_init_37 rfl ?_
  refine hn_new (c9 := (c + 3)) (s9 := (s + 384)) (ci := 3) (fs := [.null, .int 0]) hC tyX4 dX8_init_38 tyX4_ok in_X4 q659 q424 q318 rfl (by decide +kernel) (by omega) (by omega) (fun q7 => ?_)
  refine hn_dup hC dX8_init_41 rfl ?_
  refine hn_callIN hC q7 [] [.ref q7, .ref a] dX8_init_42 (List.mem_of_getElem? (i := 11) rfl) q426 q318 q427 np_X4 rfl pd_X4_init (Nat.le_of_ble_eq_true rfl) hd1 (okX4_init l E A (d - 1) (by omega) q7 _ (c + 2) (s + 128) _ _ (by omega) (by omega)) rfl (fun r8 => ?_)
  dsimp only [nc_X4_init]
  refine hn_putF (C := RX8) (T := TX8) (N := 16) hC hmn 15 6 tyX8 dX8_init_45 q667 in_X8 tyX8_ok nmX8 rfl rfl rfl rfl (by decide) rfl rfl rfl (Nat.le_of_ble_eq_true rfl) ?_
  dsimp only [List.set_cons_zero, List.set_cons_succ]
  refine hn_aload_n hC dX8_init_48 rfl ?_
  refine hn_bipush (v := 64) hC dX8_init_49 rfl ?_
  refine hn_newI (c9 := (c + 1)) (s9 := (s + 64)) hC 64 dX8_init_51 q455 (by decide) rfl (by decide) (by omega) (by omega) (fun q9 => ?_)
  refine hn_put (C := RX8) (T := TX8) (N := 16) hC 16 7 tyX8 dX8_init_53 q668 in_X8 tyX8_ok nmX8 rfl rfl rfl (by decide) rfl rfl rfl (Nat.le_of_ble_eq_true rfl) ?_
  dsimp only [List.set_cons_zero, List.set_cons_succ]
  refine hn_aload_n hC dX8_init_56 rfl ?_
  refine hn_bipush (v := 64) hC dX8_init_57 rfl ?_
  refine hn_newI (c9 := c) (s9 := s) hC 64 dX8_init_59 q455 (by decide) rfl (by decide) (by omega) (by omega) (fun q10 => ?_)
  refine hn_put (C := RX8) (T := TX8) (N := 16) hC 17 8 tyX8 dX8_init_61 q669 in_X8 tyX8_ok nmX8 rfl rfl rfl (by decide) rfl rfl rfl (Nat.le_of_ble_eq_true rfl) ?_
  dsimp only [List.set_cons_zero, List.set_cons_succ]
  refine hn_aload_n hC dX8_init_64 rfl ?_
  refine hn_aload_n hC dX8_init_65 rfl ?_
  refine hn_putF (C := RX8) (T := TX8) (N := 16) hC hmn 17 0 tyX8 dX8_init_66 q661 in_X8 tyX8_ok nmX8 rfl rfl rfl rfl (by decide) rfl rfl rfl (Nat.le_of_ble_eq_true rfl) ?_
  dsimp only [List.set_cons_zero, List.set_cons_succ]
  refine hn_aload_n hC dX8_init_69 rfl ?_
  refine hn_aload_n hC dX8_init_70 rfl ?_
  refine hn_putF (C := RX8) (T := TX8) (N := 16) hC hmn 17 1 tyX8 dX8_init_71 q662 in_X8 tyX8_ok nmX8 rfl rfl rfl rfl (by decide) rfl rfl rfl (Nat.le_of_ble_eq_true rfl) ?_
  dsimp only [List.set_cons_zero, List.set_cons_succ]
  refine hn_aload_n hC dX8_init_74 rfl ?_
  refine hn_aload_n hC dX8_init_75 rfl ?_
  refine hn_putF (C := RX8) (T := TX8) (N := 16) hC hmn 17 2 tyX8 dX8_init_76 q663 in_X8 tyX8_ok nmX8 rfl rfl rfl rfl (by decide) rfl rfl rfl (Nat.le_of_ble_eq_true rfl) ?_
  dsimp only [List.set_cons_zero, List.set_cons_succ]
  exact hn_vret (Y := (l, A, fun _ _ => 0, [])) (F := fun q => nc_X8_init E a b0 b1 b2 W0 q) hC (fun k => ([q10, q9, (r8 0), q7, (r6 0), (r6 1), (r6 2), (r6 3), q5, (r4 0), (r4 1), (r4 2), (r4 3), (r4 4), (r4 5), q3, q1] : List Nat).getD k 0) rfl dX8_init_79
def nc_X12_init (E : hc_E) (a : Nat) (W0 : va_W) (q : Nat → Nat) : va_W := ((q 0), .inl (E.2.2.1 1, 256, .inl (fun _ => 0))) :: ((q 1), .inl (E.2.2.1 1, 256, .inl (fun _ => 0))) :: ((q 2), .inl (E.2.2.1 1, 256, .inl (fun _ => 0))) :: ((q 3), .inl (E.2.2.1 1, 1024, .inl (fun _ => 0))) :: (a, .inr (11, [.ref (q 3), .int 0, .ref (q 2), .int 0, .ref (q 1), .ref (q 0), .int 0])) :: W0
set_option maxRecDepth 20000 in
set_option maxHeartbeats 4000000 in
theorem okX12_init (l : Launch) (E : hc_E) (A : Nat → Prop) (d : Nat) (hD : 1 ≤ d) (a : Nat) (W0 : va_W) (c s c0 s0 : Nat) (hc0 : c + 4 = c0) (hs0 : s + 1792 = s0) : hn_M l yX12_init (ws_ yX12_init cX12_init 1 none) d E A [.ref a] ((a, .inr (11, [.null, .int 0, .null, .int 0, .null, .null, .int 0])) :: W0) c0 s0 none (fun q => nc_X12_init E a W0 q) c s := by
  have hd1 : 1 ≤ d := by omega
  refine hn_enter (own := RX12) [(0, .ref a)] pl_X12 rfl rfl (Nat.le_of_ble_eq_true rfl) (fun X hC hmn => ?_)
  refine hn_aload_n hC dX12_init_0 rfl ?_
  refine hn_obj hC dX12_init_1 q715 q357 q358 hd1 (by simp) ?_
  refine hn_aload_n hC dX12_init_4 rfl ?_
  refine hn_sipush (v := 1024) hC dX12_init_5 rfl ?_
  refine hn_newI (c9 := (c + 3)) (s9 := (s + 768)) hC 1024 dX12_init_8 q455 (by decide) rfl (by decide) (by omega) (by omega) (fun q1 => ?_)
  refine hn_put (C := RX12) (T := TX12) (N := 7) hC 1 0 tyX12 dX12_init_10 q716 in_X12 tyX12_ok nmX12 rfl rfl rfl (by decide) rfl rfl rfl (Nat.le_of_ble_eq_true rfl) ?_
  dsimp only [List.set_cons_zero, List.set_cons_succ]
  refine hn_aload_n hC dX12_init_13 rfl ?_
  refine hn_sipush (v := 256) hC dX12_init_14 rfl ?_
  refine hn_newI (c9 := (c + 2)) (s9 := (s + 512)) hC 256 dX12_init_17 q455 (by decide) rfl (by decide) (by omega) (by omega) (fun q2 => ?_)
  refine hn_put (C := RX12) (T := TX12) (N := 7) hC 2 2 tyX12 dX12_init_19 q718 in_X12 tyX12_ok nmX12 rfl rfl rfl (by decide) rfl rfl rfl (Nat.le_of_ble_eq_true rfl) ?_
  dsimp only [List.set_cons_zero, List.set_cons_succ]
  refine hn_aload_n hC dX12_init_22 rfl ?_
  refine hn_sipush (v := 256) hC dX12_init_23 rfl ?_
  refine hn_newI (c9 := (c + 1)) (s9 := (s + 256)) hC 256 dX12_init_26 q455 (by decide) rfl (by decide) (by omega) (by omega) (fun q3 => ?_)
  refine hn_put (C := RX12) (T := TX12) (N := 7) hC 3 4 tyX12 dX12_init_28 q720 in_X12 tyX12_ok nmX12 rfl rfl rfl (by decide) rfl rfl rfl (Nat.le_of_ble_eq_true rfl) ?_
  dsimp only [List.set_cons_zero, List.set_cons_succ]
  refine hn_aload_n hC dX12_init_31 rfl ?_
  refine hn_sipush (v := 256) hC dX12_init_32 rfl ?_
  refine hn_newI (c9 := c) (s9 := s) hC 256 dX12_init_35 q455 (by decide) rfl (by decide) (by omega) (by omega) (fun q4 => ?_)
  refine hn_put (C := RX12) (T := TX12) (N := 7) hC 4 5 tyX12 dX12_init_37 q721 in_X12 tyX12_ok nmX12 rfl rfl rfl (by decide) rfl rfl rfl (Nat.le_of_ble_eq_true rfl) ?_
  dsimp only [List.set_cons_zero, List.set_cons_succ]
  exact hn_vret (Y := (l, A, fun _ _ => 0, [])) (F := fun q => nc_X12_init E a W0 q) hC (fun k => ([q4, q3, q2, q1] : List Nat).getD k 0) rfl dX12_init_40
def nc_X14_init (E : hc_E) (a : Nat) (b0 : Nat) (W0 : va_W) (q : Nat → Nat) : va_W := (a, .inr (13, [.ref b0, .int 0])) :: W0
set_option maxRecDepth 20000 in
set_option maxHeartbeats 4000000 in
theorem okX14_init (l : Launch) (E : hc_E) (A : Nat → Prop) (d : Nat) (hD : 1 ≤ d) (a : Nat) (b0 : Nat) (W0 : va_W) (c s c0 s0 : Nat) (hc0 : c + 0 = c0) (hs0 : s + 0 = s0) : hn_M l yX14_init (ws_ yX14_init cX14_init 2 none) d E A [.ref a, .ref b0] ((a, .inr (13, [.null, .int 0])) :: W0) c0 s0 none (fun q => nc_X14_init E a b0 W0 q) c s := by
  have hd1 : 1 ≤ d := by omega
  refine hn_enter (own := RX14) [(0, .ref a), (1, .ref b0)] pl_X14 rfl rfl (Nat.le_of_ble_eq_true rfl) (fun X hC hmn => ?_)
  obtain rfl : c = c0 := hc0
  obtain rfl : s = s0 := hs0
  refine hn_aload_n hC dX14_init_0 rfl ?_
  refine hn_obj hC dX14_init_1 q753 q357 q358 hd1 (by simp) ?_
  refine hn_aload_n hC dX14_init_4 rfl ?_
  refine hn_aload_n hC dX14_init_5 rfl ?_
  refine hn_putF (C := RX14) (T := TX14) (N := 2) hC hmn 0 0 tyX14 dX14_init_6 q754 in_X14 tyX14_ok nmX14 rfl rfl rfl rfl (by decide) rfl rfl rfl (Nat.le_of_ble_eq_true rfl) ?_
  dsimp only [List.set_cons_zero, List.set_cons_succ]
  exact hn_vret (Y := (l, A, fun _ _ => 0, [])) (F := fun q => nc_X14_init E a b0 W0 q) hC (fun k => ([] : List Nat).getD k 0) rfl dX14_init_9
def nc_X15_init (E : hc_E) (a : Nat) (b0 : Nat) (b1 : Nat) (W0 : va_W) (q : Nat → Nat) : va_W := ((q 0), .inl (E.2.2.1 1, 256, .inl (fun _ => 0))) :: ((q 1), .inl (E.2.2.1 1, 256, .inl (fun _ => 0))) :: ((q 2), .inl (E.2.2.1 1, 256, .inl (fun _ => 0))) :: ((q 3), .inl (E.2.2.1 1, 256, .inl (fun _ => 0))) :: (a, .inr (14, [.ref b0, .ref b1, .ref (q 3), .ref (q 2), .ref (q 1), .ref (q 0), .int 0, .int 0, .int 0])) :: W0
set_option maxRecDepth 20000 in
set_option maxHeartbeats 4000000 in
theorem okX15_init (l : Launch) (E : hc_E) (A : Nat → Prop) (d : Nat) (hD : 1 ≤ d) (a : Nat) (b0 : Nat) (b1 : Nat) (W0 : va_W) (c s c0 s0 : Nat) (hc0 : c + 4 = c0) (hs0 : s + 1024 = s0) : hn_M l yX15_init (ws_ yX15_init cX15_init 3 none) d E A [.ref a, .ref b0, .ref b1] ((a, .inr (14, [.null, .null, .null, .null, .null, .null, .int 0, .int 0, .int 0])) :: W0) c0 s0 none (fun q => nc_X15_init E a b0 b1 W0 q) c s := by
  have hd1 : 1 ≤ d := by omega
  refine hn_enter (own := RX15) [(0, .ref a), (1, .ref b0), (2, .ref b1)] pl_X15 rfl rfl (Nat.le_of_ble_eq_true rfl) (fun X hC hmn => ?_)
  refine hn_aload_n hC dX15_init_0 rfl ?_
  refine hn_obj hC dX15_init_1 q766 q357 q358 hd1 (by simp) ?_
  refine hn_aload_n hC dX15_init_4 rfl ?_
  refine hn_sipush (v := 256) hC dX15_init_5 rfl ?_
  refine hn_newI (c9 := (c + 3)) (s9 := (s + 768)) hC 256 dX15_init_8 q455 (by decide) rfl (by decide) (by omega) (by omega) (fun q1 => ?_)
  refine hn_put (C := RX15) (T := TX15) (N := 9) hC 1 2 tyX15 dX15_init_10 q769 in_X15 tyX15_ok nmX15 rfl rfl rfl (by decide) rfl rfl rfl (Nat.le_of_ble_eq_true rfl) ?_
  dsimp only [List.set_cons_zero, List.set_cons_succ]
  refine hn_aload_n hC dX15_init_13 rfl ?_
  refine hn_sipush (v := 256) hC dX15_init_14 rfl ?_
  refine hn_newI (c9 := (c + 2)) (s9 := (s + 512)) hC 256 dX15_init_17 q455 (by decide) rfl (by decide) (by omega) (by omega) (fun q2 => ?_)
  refine hn_put (C := RX15) (T := TX15) (N := 9) hC 2 3 tyX15 dX15_init_19 q770 in_X15 tyX15_ok nmX15 rfl rfl rfl (by decide) rfl rfl rfl (Nat.le_of_ble_eq_true rfl) ?_
  dsimp only [List.set_cons_zero, List.set_cons_succ]
  refine hn_aload_n hC dX15_init_22 rfl ?_
  refine hn_sipush (v := 256) hC dX15_init_23 rfl ?_
  refine hn_newI (c9 := (c + 1)) (s9 := (s + 256)) hC 256 dX15_init_26 q455 (by decide) rfl (by decide) (by omega) (by omega) (fun q3 => ?_)
  refine hn_put (C := RX15) (T := TX15) (N := 9) hC 3 4 tyX15 dX15_init_28 q771 in_X15 tyX15_ok nmX15 rfl rfl rfl (by decide) rfl rfl rfl (Nat.le_of_ble_eq_true rfl) ?_
  dsimp only [List.set_cons_zero, List.set_cons_succ]
  refine hn_aload_n hC dX15_init_31 rfl ?_
  refine hn_sipush (v := 256) hC dX15_init_32 rfl ?_
  refine hn_newI (c9 := c) (s9 := s) hC 256 dX15_init_35 q455 (by decide) rfl (by decide) (by omega) (by omega) (fun q4 => ?_)
  refine hn_put (C := RX15) (T := TX15) (N := 9) hC 4 5 tyX15 dX15_init_37 q772 in_X15 tyX15_ok nmX15 rfl rfl rfl (by decide) rfl rfl rfl (Nat.le_of_ble_eq_true rfl) ?_
  dsimp only [List.set_cons_zero, List.set_cons_succ]
  refine hn_aload_n hC dX15_init_40 rfl ?_
  refine hn_aload_n hC dX15_init_41 rfl ?_
  refine hn_putF (C := RX15) (T := TX15) (N := 9) hC hmn 4 0 tyX15 dX15_init_42 q767 in_X15 tyX15_ok nmX15 rfl rfl rfl rfl (by decide) rfl rfl rfl (Nat.le_of_ble_eq_true rfl) ?_
  dsimp only [List.set_cons_zero, List.set_cons_succ]
  refine hn_aload_n hC dX15_init_45 rfl ?_
  refine hn_aload_n hC dX15_init_46 rfl ?_
  refine hn_putF (C := RX15) (T := TX15) (N := 9) hC hmn 4 1 tyX15 dX15_init_47 q768 in_X15 tyX15_ok nmX15 rfl rfl rfl rfl (by decide) rfl rfl rfl (Nat.le_of_ble_eq_true rfl) ?_
  dsimp only [List.set_cons_zero, List.set_cons_succ]
  exact hn_vret (Y := (l, A, fun _ _ => 0, [])) (F := fun q => nc_X15_init E a b0 b1 W0 q) hC (fun k => ([q4, q3, q2, q1] : List Nat).getD k 0) rfl dX15_init_50
theorem okX8_variables0 (l : Launch) (E : hc_E) (A : Nat → Prop) (d : Nat) (hD : 0 ≤ d) (b v : Nat) {ws : va_W} (j : Nat) (fs : List Value) (hj : ws[j]? = some (b, .inr (7, fs))) (hv : fs[5]? = some (.ref v)) (c s : Nat) : hn_M l yX8_variables (ws_ yX8_variables cX8_variables 1 (some (.object "HomeCompiler$Variables"))) d E A [.ref b] ws c s (some (.ref v)) (fun _ => ws) c s := by
  refine hn_enter (own := RX8) [(0, .ref b)] pl_X8 rfl rfl (Nat.le_of_ble_eq_true rfl) (fun X hC hmn => ?_)
  refine hn_aload_n hC dX8_variables_0 rfl ?_
  refine hn_get (C := RX8) (T := TX8) (N := 16) hC j 5 dX8_variables_1 q666 in_X8 rfl rfl hj (by decide) hv ?_
  exact hn_aret (Y := (l, A, fun _ _ => 0, [])) (F := fun _ => ws) hC (fun _ => 0) rfl (Or.inl ⟨_, rfl⟩) dX8_variables_4
def nc_X13_init (E : hc_E) (a : Nat) (b0 : Nat) (b1 : Nat) (b2 : Nat) (b3 : Nat) (b4 : Nat) (v : Nat) (W0 : va_W) (q : Nat → Nat) : va_W := ((q 0), .inl (E.2.2.1 1, 256, .inl (fun _ => 0))) :: ((q 1), .inl (E.2.2.1 1, 256, .inl (fun _ => 0))) :: ((q 2), .inl (E.2.2.1 1, 256, .inl (fun _ => 0))) :: ((q 3), .inl (E.2.2.1 1, 256, .inl (fun _ => 0))) :: ((q 4), .inr (14, [.ref b0, .ref v, .ref (q 3), .ref (q 2), .ref (q 1), .ref (q 0), .int 0, .int 0, .int 0])) :: ((q 5), .inr (13, [.ref b0, .int 0])) :: ((q 6), .inl (E.2.2.1 1, 4, .inl (fun _ => 0))) :: ((q 7), .inl (E.2.2.1 1, 256, .inl (fun _ => 0))) :: ((q 8), .inl (E.2.2.1 1, 64, .inl (fun _ => 0))) :: (a, .inr (12, [.ref b0, .ref b1, .ref v, .ref b2, .ref b3, .ref b4, .ref (q 5), .ref (q 4), .ref (q 8), .ref (q 7), .ref (q 6), .int 0, .int 0, .int 0, .int 0, .int 0, .int (-1), .int 0, .int 0])) :: W0
set_option maxRecDepth 20000 in
set_option maxHeartbeats 4000000 in
theorem okX13_init (l : Launch) (E : hc_E) (A : Nat → Prop) (d : Nat) (hD : 2 ≤ d) (a : Nat) (b0 : Nat) (b1 : Nat) (b2 : Nat) (b3 : Nat) (b4 : Nat) (W0 : va_W) (c s c0 s0 : Nat) (hc0 : c + 9 = c0) (hs0 : s + 1359 = s0) {j v : Nat} {fs : List Value} (hj : W0[j]? = some (b1, .inr (7, fs))) (hv : fs[5]? = some (.ref v)) : hn_M l yX13_init (ws_ yX13_init cX13_init 6 none) d E A [.ref a, .ref b0, .ref b1, .ref b2, .ref b3, .ref b4] ((a, .inr (12, [.null, .null, .null, .null, .null, .null, .null, .null, .null, .null, .null, .int 0, .int 0, .int 0, .int 0, .int 0, .int 0, .int 0, .int 0])) :: W0) c0 s0 none (fun q => nc_X13_init E a b0 b1 b2 b3 b4 v W0 q) c s := by
  have hd1 : 1 ≤ d := by omega
  refine hn_enter (own := RX13) [(0, .ref a), (1, .ref b0), (2, .ref b1), (3, .ref b2), (4, .ref b3), (5, .ref b4)] pl_X13 rfl rfl (Nat.le_of_ble_eq_true rfl) (fun X hC hmn => ?_)
  refine hn_aload_n hC dX13_init_0 rfl ?_
  refine hn_obj hC dX13_init_1 q743 q357 q358 hd1 (by simp) ?_
  refine hn_aload_n hC dX13_init_4 rfl ?_
  refine hn_bipush (v := 64) hC dX13_init_5 rfl ?_
  refine hn_newI (c9 := (c + 8)) (s9 := (s + 1295)) hC 64 dX13_init_7 q455 (by decide) rfl (by decide) (by omega) (by omega) (fun q1 => ?_)
  refine hn_put (C := RX13) (T := TX13) (N := 19) hC 1 8 tyX13 dX13_init_9 q803 in_X13 tyX13_ok nmX13 rfl rfl rfl (by decide) rfl rfl rfl (Nat.le_of_ble_eq_true rfl) ?_
  dsimp only [List.set_cons_zero, List.set_cons_succ]
  refine hn_aload_n hC dX13_init_12 rfl ?_
  refine hn_sipush (v := 256) hC dX13_init_13 rfl ?_
  refine hn_newI (c9 := (c + 7)) (s9 := (s + 1039)) hC 256 dX13_init_16 q455 (by decide) rfl (by decide) (by omega) (by omega) (fun q2 => ?_)
  refine hn_put (C := RX13) (T := TX13) (N := 19) hC 2 9 tyX13 dX13_init_18 q804 in_X13 tyX13_ok nmX13 rfl rfl rfl (by decide) rfl rfl rfl (Nat.le_of_ble_eq_true rfl) ?_
  dsimp only [List.set_cons_zero, List.set_cons_succ]
  refine hn_aload_n hC dX13_init_21 rfl ?_
  refine hn_iconst (v := 4) hC dX13_init_22 rfl ?_
  refine hn_newI (c9 := (c + 6)) (s9 := (s + 1035)) hC 4 dX13_init_23 q455 (by decide) rfl (by decide) (by omega) (by omega) (fun q3 => ?_)
  refine hn_putF (C := RX13) (T := TX13) (N := 19) hC hmn 3 10 tyX13 dX13_init_25 q805 in_X13 tyX13_ok nmX13 rfl rfl rfl rfl (by decide) rfl rfl rfl (Nat.le_of_ble_eq_true rfl) ?_
  dsimp only [List.set_cons_zero, List.set_cons_succ]
  refine hn_aload_n hC dX13_init_28 rfl ?_
  refine hn_iconst (v := -1) hC dX13_init_29 rfl ?_
  refine hn_put (C := RX13) (T := TX13) (N := 19) hC 3 16 tyX13 dX13_init_30 q811 in_X13 tyX13_ok nmX13 rfl rfl rfl (by decide) rfl rfl rfl (Nat.le_of_ble_eq_true rfl) ?_
  dsimp only [List.set_cons_zero, List.set_cons_succ]
  refine hn_aload_n hC dX13_init_33 rfl ?_
  refine hn_aload_n hC dX13_init_34 rfl ?_
  refine hn_putF (C := RX13) (T := TX13) (N := 19) hC hmn 3 0 tyX13 dX13_init_35 q795 in_X13 tyX13_ok nmX13 rfl rfl rfl rfl (by decide) rfl rfl rfl (Nat.le_of_ble_eq_true rfl) ?_
  dsimp only [List.set_cons_zero, List.set_cons_succ]
  refine hn_aload_n hC dX13_init_38 rfl ?_
  refine hn_aload_n hC dX13_init_39 rfl ?_
  refine hn_putF (C := RX13) (T := TX13) (N := 19) hC hmn 3 1 tyX13 dX13_init_40 q796 in_X13 tyX13_ok nmX13 rfl rfl rfl rfl (by decide) rfl rfl rfl (Nat.le_of_ble_eq_true rfl) ?_
  dsimp only [List.set_cons_zero, List.set_cons_succ]
  refine hn_aload_n hC dX13_init_43 rfl ?_
  refine hn_aload_n hC dX13_init_44 rfl ?_
  refine hn_callV (ci := 7) (fs := fs) hC (j + 4) [] [.ref a] dX13_init_45 q744 q745 q746 q322 q747 np_X8 rfl rfl hj pd_X8_variables (Nat.le_of_ble_eq_true rfl) hd1 (okX8_variables0 l E A (d - 1) (by omega) b1 v (j + 4) fs hj hv _ _) rfl (fun r4 => ?_)
  dsimp only [Option.toList, List.cons_append, List.nil_append]
  refine hn_putF (C := RX13) (T := TX13) (N := 19) hC hmn 3 2 tyX13 dX13_init_48 q797 in_X13 tyX13_ok nmX13 rfl rfl rfl rfl (by decide) rfl rfl rfl (Nat.le_of_ble_eq_true rfl) ?_
  dsimp only [List.set_cons_zero, List.set_cons_succ]
  refine hn_aload_n hC dX13_init_51 rfl ?_
  refine hn_aload_n hC dX13_init_52 rfl ?_
  refine hn_putF (C := RX13) (T := TX13) (N := 19) hC hmn 3 3 tyX13 dX13_init_53 q798 in_X13 tyX13_ok nmX13 rfl rfl rfl rfl (by decide) rfl rfl rfl (Nat.le_of_ble_eq_true rfl) ?_
  dsimp only [List.set_cons_zero, List.set_cons_succ]
  refine hn_aload_n hC dX13_init_56 rfl ?_
  refine hn_aload hC dX13_init_57 rfl ?_
  refine hn_putF (C := RX13) (T := TX13) (N := 19) hC hmn 3 4 tyX13 dX13_init_59 q799 in_X13 tyX13_ok nmX13 rfl rfl rfl rfl (by decide) rfl rfl rfl (Nat.le_of_ble_eq_true rfl) ?_
  dsimp only [List.set_cons_zero, List.set_cons_succ]
  refine hn_aload_n hC dX13_init_62 rfl ?_
  refine hn_aload hC dX13_init_63 rfl ?_
  refine hn_putF (C := RX13) (T := TX13) (N := 19) hC hmn 3 5 tyX13 dX13_init_65 q800 in_X13 tyX13_ok nmX13 rfl rfl rfl rfl (by decide) rfl rfl rfl (Nat.le_of_ble_eq_true rfl) ?_
  dsimp only [List.set_cons_zero, List.set_cons_succ]
  refine hn_aload_n hC dX13_init_68 rfl ?_
  refine hn_new (c9 := (c + 5)) (s9 := (s + 1033)) (ci := 13) (fs := [.null, .int 0]) hC tyX14 dX13_init_69 tyX14_ok in_X14 q748 q749 q328 rfl (by decide +kernel) (by omega) (by omega) (fun q5 => ?_)
  refine hn_dup hC dX13_init_72 rfl ?_
  refine hn_aload_n hC dX13_init_73 rfl ?_
  refine hn_callI hC q5 [.ref b0] [.ref q5, .ref a] dX13_init_74 q750 q751 q328 q752 np_X14 rfl pd_X14_init (Nat.le_of_ble_eq_true rfl) hd1 (okX14_init l E A (d - 1) (by omega) q5 b0 _ (c + 5) (s + 1033) _ _ (by omega) (by omega)) rfl (fun r6 => ?_)
  dsimp only [nc_X14_init]
  refine hn_putF (C := RX13) (T := TX13) (N := 19) hC hmn 4 6 tyX13 dX13_init_77 q801 in_X13 tyX13_ok nmX13 rfl rfl rfl rfl (by decide) rfl rfl rfl (Nat.le_of_ble_eq_true rfl) ?_
  dsimp only [List.set_cons_zero, List.set_cons_succ]
  refine hn_aload_n hC dX13_init_80 rfl ?_
  refine hn_new (c9 := (c + 4)) (s9 := (s + 1024)) (ci := 14) (fs := [.null, .null, .null, .null, .null, .null, .int 0, .int 0, .int 0]) hC tyX15 dX13_init_81 tyX15_ok in_X15 q761 q762 q329 rfl (by decide +kernel) (by omega) (by omega) (fun q7 => ?_)
  refine hn_dup hC dX13_init_84 rfl ?_
  refine hn_aload_n hC dX13_init_85 rfl ?_
  refine hn_aload_n hC dX13_init_86 rfl ?_
  refine hn_get (C := RX13) (T := TX13) (N := 19) hC 5 2 dX13_init_87 q797 in_X13 rfl rfl rfl (by decide) rfl ?_
  refine hn_callI hC q7 [.ref b0, .ref v] [.ref q7, .ref a] dX13_init_90 q763 q764 q329 q765 np_X15 rfl pd_X15_init (Nat.le_of_ble_eq_true rfl) hd1 (okX15_init l E A (d - 1) (by omega) q7 b0 v _ c s _ _ (by omega) (by omega)) rfl (fun r8 => ?_)
  dsimp only [nc_X15_init]
  refine hn_putF (C := RX13) (T := TX13) (N := 19) hC hmn 9 7 tyX13 dX13_init_93 q802 in_X13 tyX13_ok nmX13 rfl rfl rfl rfl (by decide) rfl rfl rfl (Nat.le_of_ble_eq_true rfl) ?_
  dsimp only [List.set_cons_zero, List.set_cons_succ]
  exact hn_vret (Y := (l, A, fun _ _ => 0, [])) (F := fun q => nc_X13_init E a b0 b1 b2 b3 b4 v W0 q) hC (fun k => ([(r8 0), (r8 1), (r8 2), (r8 3), q7, q5, q3, q2, q1] : List Nat).getD k 0) rfl dX13_init_96
def nc_X17_init (E : hc_E) (a : Nat) (W0 : va_W) (q : Nat → Nat) : va_W := ((q 0), .inl (E.2.2.1 3, 256, .inl (fun _ => 0))) :: ((q 1), .inl (E.2.2.1 2, 262144, .inl (fun _ => 0))) :: ((q 2), .inl (E.2.2.1 1, 262144, .inl (fun _ => 0))) :: (a, .inr (16, [.int 20, .ref (q 2), .ref (q 1), .ref (q 0), .int 0])) :: W0
set_option maxRecDepth 20000 in
set_option maxHeartbeats 4000000 in
theorem okX17_init (l : Launch) (E : hc_E) (A : Nat → Prop) (d : Nat) (hD : 1 ≤ d) (a : Nat) (W0 : va_W) (c s c0 s0 : Nat) (hc0 : c + 3 = c0) (hs0 : s + 524544 = s0) : hn_M l yX17_init (ws_ yX17_init cX17_init 2 none) d E A [.ref a, .int 20] ((a, .inr (16, [.int 0, .null, .null, .null, .int 0])) :: W0) c0 s0 none (fun q => nc_X17_init E a W0 q) c s := by
  have hd1 : 1 ≤ d := by omega
  refine hn_enter (own := RX17) [(0, .ref a), (1, .int 20)] pl_X17 rfl rfl (Nat.le_of_ble_eq_true rfl) (fun X hC hmn => ?_)
  refine hn_aload_n hC dX17_init_0 rfl ?_
  refine hn_obj hC dX17_init_1 q864 q357 q358 hd1 (by simp) ?_
  refine hn_aload_n hC dX17_init_4 rfl ?_
  refine hn_iload_n hC dX17_init_5 rfl ?_
  refine hn_putF (C := RX17) (T := TX17) (N := 5) hC hmn 0 0 tyX17 dX17_init_6 q865 in_X17 tyX17_ok nmX17 rfl rfl rfl rfl (by decide) rfl rfl rfl (Nat.le_of_ble_eq_true rfl) ?_
  dsimp only [List.set_cons_zero, List.set_cons_succ]
  refine hn_aload_n hC dX17_init_9 rfl ?_
  refine hn_iconst (v := 1) hC dX17_init_10 rfl ?_
  refine hn_iload_n hC dX17_init_11 rfl ?_
  refine hn_iconst (v := 2) hC dX17_init_12 rfl ?_
  refine hn_isub hC dX17_init_13 ?_
  rw [show (20 - 2 : Int32) = 18 from by decide]
  refine hn_ishl hC dX17_init_14 ?_
  rw [show (jshl 1 18 : Int32) = 262144 from by decide]
  refine hn_newI (c9 := (c + 2)) (s9 := (s + 262400)) hC 262144 dX17_init_15 q455 (by decide) rfl (by decide) (by omega) (by omega) (fun q1 => ?_)
  refine hn_putF (C := RX17) (T := TX17) (N := 5) hC hmn 1 1 tyX17 dX17_init_17 q866 in_X17 tyX17_ok nmX17 rfl rfl rfl rfl (by decide) rfl rfl rfl (Nat.le_of_ble_eq_true rfl) ?_
  dsimp only [List.set_cons_zero, List.set_cons_succ]
  refine hn_aload_n hC dX17_init_20 rfl ?_
  refine hn_iconst (v := 1) hC dX17_init_21 rfl ?_
  refine hn_iload_n hC dX17_init_22 rfl ?_
  refine hn_iconst (v := 2) hC dX17_init_23 rfl ?_
  refine hn_isub hC dX17_init_24 ?_
  rw [show (20 - 2 : Int32) = 18 from by decide]
  refine hn_ishl hC dX17_init_25 ?_
  rw [show (jshl 1 18 : Int32) = 262144 from by decide]
  refine hn_newB (c9 := (c + 1)) (s9 := (s + 256)) hC 262144 dX17_init_26 q416 (by decide) rfl (by decide) (by omega) (by omega) (fun q2 => ?_)
  refine hn_putF (C := RX17) (T := TX17) (N := 5) hC hmn 2 2 tyX17 dX17_init_28 q867 in_X17 tyX17_ok nmX17 rfl rfl rfl rfl (by decide) rfl rfl rfl (Nat.le_of_ble_eq_true rfl) ?_
  dsimp only [List.set_cons_zero, List.set_cons_succ]
  refine hn_aload_n hC dX17_init_31 rfl ?_
  refine hn_iconst (v := 1) hC dX17_init_32 rfl ?_
  refine hn_iload_n hC dX17_init_33 rfl ?_
  refine hn_bipush (v := 12) hC dX17_init_34 rfl ?_
  refine hn_isub hC dX17_init_36 ?_
  rw [show (20 - 12 : Int32) = 8 from by decide]
  refine hn_ishl hC dX17_init_37 ?_
  rw [show (jshl 1 8 : Int32) = 256 from by decide]
  refine hn_newZ (c9 := c) (s9 := s) hC 256 dX17_init_38 q881 (by decide) rfl (by decide) (by omega) (by omega) (fun q3 => ?_)
  refine hn_putF (C := RX17) (T := TX17) (N := 5) hC hmn 3 3 tyX17 dX17_init_40 q868 in_X17 tyX17_ok nmX17 rfl rfl rfl rfl (by decide) rfl rfl rfl (Nat.le_of_ble_eq_true rfl) ?_
  dsimp only [List.set_cons_zero, List.set_cons_succ]
  exact hn_vret (Y := (l, A, fun _ _ => 0, [])) (F := fun q => nc_X17_init E a W0 q) hC (fun k => ([q3, q2, q1] : List Nat).getD k 0) rfl dX17_init_43
def nc_X18_init (E : hc_E) (a : Nat) (W0 : va_W) (q : Nat → Nat) : va_W := ((q 0), .inl (E.2.2.1 1, 9, .inl (upd (upd (fun _ => 0) 7 (-1)) 8 (-1)))) :: (a, .inr (17, [.ref (q 0)])) :: W0
set_option maxRecDepth 20000 in
set_option maxHeartbeats 4000000 in
theorem okX18_init (l : Launch) (E : hc_E) (A : Nat → Prop) (d : Nat) (hD : 1 ≤ d) (a : Nat) (W0 : va_W) (c s c0 s0 : Nat) (hc0 : c + 1 = c0) (hs0 : s + 9 = s0) : hn_M l yX18_init (ws_ yX18_init cX18_init 1 none) d E A [.ref a] ((a, .inr (17, [.null])) :: W0) c0 s0 none (fun q => nc_X18_init E a W0 q) c s := by
  have hd1 : 1 ≤ d := by omega
  refine hn_enter (own := RX18) [(0, .ref a)] pl_X18 rfl rfl (Nat.le_of_ble_eq_true rfl) (fun X hC hmn => ?_)
  refine hn_aload_n hC dX18_init_0 rfl ?_
  refine hn_obj hC dX18_init_1 q887 q357 q358 hd1 (by simp) ?_
  refine hn_aload_n hC dX18_init_4 rfl ?_
  refine hn_bipush (v := 9) hC dX18_init_5 rfl ?_
  refine hn_newI (c9 := c) (s9 := s) hC 9 dX18_init_7 q455 (by decide) rfl (by decide) (by omega) (by omega) (fun q1 => ?_)
  refine hn_putF (C := RX18) (T := TX18) (N := 1) hC hmn 1 0 tyX18 dX18_init_9 q888 in_X18 tyX18_ok nmX18 rfl rfl rfl rfl (by decide) rfl rfl rfl (Nat.le_of_ble_eq_true rfl) ?_
  dsimp only [List.set_cons_zero, List.set_cons_succ]
  refine hn_aload_n hC dX18_init_12 rfl ?_
  refine hn_get (C := RX18) (T := TX18) (N := 1) hC 1 0 dX18_init_13 q888 in_X18 rfl rfl rfl (by decide) rfl ?_
  refine hn_bipush (v := 7) hC dX18_init_16 rfl ?_
  refine hn_iconst (v := -1) hC dX18_init_18 rfl ?_
  refine hn_iast hC 0 7 dX18_init_19 rfl rfl (inb_in rfl) ?_
  dsimp only [List.set_cons_zero, List.set_cons_succ]
  refine hn_aload_n hC dX18_init_20 rfl ?_
  refine hn_get (C := RX18) (T := TX18) (N := 1) hC 1 0 dX18_init_21 q888 in_X18 rfl rfl rfl (by decide) rfl ?_
  refine hn_bipush (v := 8) hC dX18_init_24 rfl ?_
  refine hn_iconst (v := -1) hC dX18_init_26 rfl ?_
  refine hn_iast hC 0 8 dX18_init_27 rfl rfl (inb_in rfl) ?_
  dsimp only [List.set_cons_zero, List.set_cons_succ]
  exact hn_vret (Y := (l, A, fun _ _ => 0, [])) (F := fun q => nc_X18_init E a W0 q) hC (fun k => ([q1] : List Nat).getD k 0) rfl dX18_init_28
def nc_X20_init (E : hc_E) (a : Nat) (b0 : Nat) (W0 : va_W) (q : Nat → Nat) : va_W := ((q 0), .inl (E.2.2.1 1, 192, .inl (fun _ => 0))) :: ((q 1), .inl (E.2.2.1 1, 192, .inl (fun _ => 0))) :: (a, .inr (19, [.ref b0, .ref (q 1), .ref (q 0), .int 0, .int 0])) :: W0
set_option maxRecDepth 20000 in
set_option maxHeartbeats 4000000 in
theorem okX20_init (l : Launch) (E : hc_E) (A : Nat → Prop) (d : Nat) (hD : 1 ≤ d) (a : Nat) (b0 : Nat) (W0 : va_W) (c s c0 s0 : Nat) (hc0 : c + 2 = c0) (hs0 : s + 384 = s0) : hn_M l yX20_init (ws_ yX20_init cX20_init 2 none) d E A [.ref a, .ref b0] ((a, .inr (19, [.null, .null, .null, .int 0, .int 0])) :: W0) c0 s0 none (fun q => nc_X20_init E a b0 W0 q) c s := by
  have hd1 : 1 ≤ d := by omega
  refine hn_enter (own := RX20) [(0, .ref a), (1, .ref b0)] pl_X20 rfl rfl (Nat.le_of_ble_eq_true rfl) (fun X hC hmn => ?_)
  refine hn_aload_n hC dX20_init_0 rfl ?_
  refine hn_obj hC dX20_init_1 q903 q357 q358 hd1 (by simp) ?_
  refine hn_aload_n hC dX20_init_4 rfl ?_
  refine hn_sipush (v := 192) hC dX20_init_5 rfl ?_
  refine hn_newI (c9 := (c + 1)) (s9 := (s + 192)) hC 192 dX20_init_8 q455 (by decide) rfl (by decide) (by omega) (by omega) (fun q1 => ?_)
  refine hn_putF (C := RX20) (T := TX20) (N := 5) hC hmn 1 1 tyX20 dX20_init_10 q905 in_X20 tyX20_ok nmX20 rfl rfl rfl rfl (by decide) rfl rfl rfl (Nat.le_of_ble_eq_true rfl) ?_
  dsimp only [List.set_cons_zero, List.set_cons_succ]
  refine hn_aload_n hC dX20_init_13 rfl ?_
  refine hn_sipush (v := 192) hC dX20_init_14 rfl ?_
  refine hn_newI (c9 := c) (s9 := s) hC 192 dX20_init_17 q455 (by decide) rfl (by decide) (by omega) (by omega) (fun q2 => ?_)
  refine hn_putF (C := RX20) (T := TX20) (N := 5) hC hmn 2 2 tyX20 dX20_init_19 q906 in_X20 tyX20_ok nmX20 rfl rfl rfl rfl (by decide) rfl rfl rfl (Nat.le_of_ble_eq_true rfl) ?_
  dsimp only [List.set_cons_zero, List.set_cons_succ]
  refine hn_aload_n hC dX20_init_22 rfl ?_
  refine hn_aload_n hC dX20_init_23 rfl ?_
  refine hn_putF (C := RX20) (T := TX20) (N := 5) hC hmn 2 0 tyX20 dX20_init_24 q904 in_X20 tyX20_ok nmX20 rfl rfl rfl rfl (by decide) rfl rfl rfl (Nat.le_of_ble_eq_true rfl) ?_
  dsimp only [List.set_cons_zero, List.set_cons_succ]
  exact hn_vret (Y := (l, A, fun _ _ => 0, [])) (F := fun q => nc_X20_init E a b0 W0 q) hC (fun k => ([q2, q1] : List Nat).getD k 0) rfl dX20_init_27
def nc_X19_init (E : hc_E) (a : Nat) (b0 : Nat) (b1 : Nat) (W0 : va_W) (q : Nat → Nat) : va_W := ((q 0), .inl (E.2.2.1 1, 192, .inl (fun _ => 0))) :: ((q 1), .inl (E.2.2.1 1, 192, .inl (fun _ => 0))) :: ((q 2), .inr (19, [.ref b0, .ref (q 1), .ref (q 0), .int 0, .int 0])) :: ((q 3), .inl (E.2.2.1 1, 32, .inl (fun _ => 0))) :: (a, .inr (18, [.ref b0, .ref b1, .ref (q 2), .ref (q 3), .int 0, .int 1, .int 0])) :: W0
set_option maxRecDepth 20000 in
set_option maxHeartbeats 4000000 in
theorem okX19_init (l : Launch) (E : hc_E) (A : Nat → Prop) (d : Nat) (hD : 2 ≤ d) (a : Nat) (b0 : Nat) (b1 : Nat) (W0 : va_W) (c s c0 s0 : Nat) (hc0 : c + 4 = c0) (hs0 : s + 421 = s0) : hn_M l yX19_init (ws_ yX19_init cX19_init 3 none) d E A [.ref a, .ref b0, .ref b1] ((a, .inr (18, [.null, .null, .null, .null, .int 0, .int 0, .int 0])) :: W0) c0 s0 none (fun q => nc_X19_init E a b0 b1 W0 q) c s := by
  have hd1 : 1 ≤ d := by omega
  refine hn_enter (own := RX19) [(0, .ref a), (1, .ref b0), (2, .ref b1)] pl_X19 rfl rfl (Nat.le_of_ble_eq_true rfl) (fun X hC hmn => ?_)
  refine hn_aload_n hC dX19_init_0 rfl ?_
  refine hn_obj hC dX19_init_1 q897 q357 q358 hd1 (by simp) ?_
  refine hn_aload_n hC dX19_init_4 rfl ?_
  refine hn_bipush (v := 32) hC dX19_init_5 rfl ?_
  refine hn_newI (c9 := (c + 3)) (s9 := (s + 389)) hC 32 dX19_init_7 q455 (by decide) rfl (by decide) (by omega) (by omega) (fun q1 => ?_)
  refine hn_putF (C := RX19) (T := TX19) (N := 7) hC hmn 1 3 tyX19 dX19_init_9 q923 in_X19 tyX19_ok nmX19 rfl rfl rfl rfl (by decide) rfl rfl rfl (Nat.le_of_ble_eq_true rfl) ?_
  dsimp only [List.set_cons_zero, List.set_cons_succ]
  refine hn_aload_n hC dX19_init_12 rfl ?_
  refine hn_iconst (v := 1) hC dX19_init_13 rfl ?_
  refine hn_put (C := RX19) (T := TX19) (N := 7) hC 1 5 tyX19 dX19_init_14 q928 in_X19 tyX19_ok nmX19 rfl rfl rfl (by decide) rfl rfl rfl (Nat.le_of_ble_eq_true rfl) ?_
  dsimp only [List.set_cons_zero, List.set_cons_succ]
  refine hn_aload_n hC dX19_init_17 rfl ?_
  refine hn_aload_n hC dX19_init_18 rfl ?_
  refine hn_putF (C := RX19) (T := TX19) (N := 7) hC hmn 1 0 tyX19 dX19_init_19 q920 in_X19 tyX19_ok nmX19 rfl rfl rfl rfl (by decide) rfl rfl rfl (Nat.le_of_ble_eq_true rfl) ?_
  dsimp only [List.set_cons_zero, List.set_cons_succ]
  refine hn_aload_n hC dX19_init_22 rfl ?_
  refine hn_aload_n hC dX19_init_23 rfl ?_
  refine hn_putF (C := RX19) (T := TX19) (N := 7) hC hmn 1 1 tyX19 dX19_init_24 q921 in_X19 tyX19_ok nmX19 rfl rfl rfl rfl (by decide) rfl rfl rfl (Nat.le_of_ble_eq_true rfl) ?_
  dsimp only [List.set_cons_zero, List.set_cons_succ]
  refine hn_aload_n hC dX19_init_27 rfl ?_
  refine hn_new (c9 := (c + 2)) (s9 := (s + 384)) (ci := 19) (fs := [.null, .null, .null, .int 0, .int 0]) hC tyX20 dX19_init_28 tyX20_ok in_X20 q898 q899 q334 rfl (by decide +kernel) (by omega) (by omega) (fun q2 => ?_)
  refine hn_dup hC dX19_init_31 rfl ?_
  refine hn_aload_n hC dX19_init_32 rfl ?_
  refine hn_callI hC q2 [.ref b0] [.ref q2, .ref a] dX19_init_33 q900 q901 q334 q902 np_X20 rfl pd_X20_init (Nat.le_of_ble_eq_true rfl) hd1 (okX20_init l E A (d - 1) (by omega) q2 b0 _ c s _ _ (by omega) (by omega)) rfl (fun r3 => ?_)
  dsimp only [nc_X20_init]
  refine hn_putF (C := RX19) (T := TX19) (N := 7) hC hmn 4 2 tyX19 dX19_init_36 q922 in_X19 tyX19_ok nmX19 rfl rfl rfl rfl (by decide) rfl rfl rfl (Nat.le_of_ble_eq_true rfl) ?_
  dsimp only [List.set_cons_zero, List.set_cons_succ]
  exact hn_vret (Y := (l, A, fun _ _ => 0, [])) (F := fun q => nc_X19_init E a b0 b1 W0 q) hC (fun k => ([(r3 0), (r3 1), q2, q1] : List Nat).getD k 0) rfl dX19_init_39
def nc_X16_init (E : hc_E) (a : Nat) (W0 : va_W) (q : Nat → Nat) : va_W := ((q 0), .inl (E.2.2.1 1, 128, .inl (fun _ => 0))) :: ((q 1), .inl (E.2.2.1 1, 64, .inl (fun _ => 0))) :: ((q 2), .inl (E.2.2.1 1, 1024, .inl (fun _ => 0))) :: ((q 3), .inl (E.2.2.1 1, 192, .inl (fun _ => 0))) :: ((q 4), .inl (E.2.2.1 1, 192, .inl (fun _ => 0))) :: ((q 5), .inr (19, [.ref (q 13), .ref (q 4), .ref (q 3), .int 0, .int 0])) :: ((q 6), .inl (E.2.2.1 1, 32, .inl (fun _ => 0))) :: ((q 7), .inr (18, [.ref (q 13), .ref (q 9), .ref (q 5), .ref (q 6), .int 0, .int 1, .int 0])) :: ((q 8), .inl (E.2.2.1 1, 9, .inl (upd (upd (fun _ => 0) 7 (-1)) 8 (-1)))) :: ((q 9), .inr (17, [.ref (q 8)])) :: ((q 10), .inl (E.2.2.1 3, 256, .inl (fun _ => 0))) :: ((q 11), .inl (E.2.2.1 2, 262144, .inl (fun _ => 0))) :: ((q 12), .inl (E.2.2.1 1, 262144, .inl (fun _ => 0))) :: ((q 13), .inr (16, [.int 20, .ref (q 12), .ref (q 11), .ref (q 10), .int 0])) :: (a, .inr (15, [.ref (q 13), .ref (q 9), .ref (q 7), .ref (q 2), .int 0, .ref (q 1), .int 0, .ref (q 0), .int 0])) :: W0
set_option maxRecDepth 20000 in
set_option maxHeartbeats 4000000 in
theorem okX16_init (l : Launch) (E : hc_E) (A : Nat → Prop) (d : Nat) (hD : 3 ≤ d) (a : Nat) (W0 : va_W) (c s c0 s0 : Nat) (hc0 : c + 14 = c0) (hs0 : s + 526203 = s0) : hn_M l yX16_init (ws_ yX16_init cX16_init 1 none) d E A [.ref a] ((a, .inr (15, [.null, .null, .null, .null, .int 0, .null, .int 0, .null, .int 0])) :: W0) c0 s0 none (fun q => nc_X16_init E a W0 q) c s := by
  have hd1 : 1 ≤ d := by omega
  refine hn_enter (own := RX16) [(0, .ref a)] pl_X16 rfl rfl (Nat.le_of_ble_eq_true rfl) (fun X hC hmn => ?_)
  refine hn_aload_n hC dX16_init_0 rfl ?_
  refine hn_obj hC dX16_init_1 q858 q357 q358 hd1 (by simp) ?_
  refine hn_aload_n hC dX16_init_4 rfl ?_
  refine hn_new (c9 := (c + 13)) (s9 := (s + 526198)) (ci := 16) (fs := [.int 0, .null, .null, .null, .int 0]) hC tyX17 dX16_init_5 tyX17_ok in_X17 q859 q860 q331 rfl (by decide +kernel) (by omega) (by omega) (fun q1 => ?_)
  refine hn_dup hC dX16_init_8 rfl ?_
  refine hn_bipush (v := 20) hC dX16_init_9 rfl ?_
  refine hn_callI hC q1 [.int 20] [.ref q1, .ref a] dX16_init_11 q861 q862 q331 q863 np_X17 rfl pd_X17_init (Nat.le_of_ble_eq_true rfl) hd1 (okX17_init l E A (d - 1) (by omega) q1 _ (c + 10) (s + 1654) _ _ (by omega) (by omega)) rfl (fun r2 => ?_)
  dsimp only [nc_X17_init]
  refine hn_putF (C := RX16) (T := TX16) (N := 9) hC hmn 4 0 tyX16 dX16_init_14 q946 in_X16 tyX16_ok nmX16 rfl rfl rfl rfl (by decide) rfl rfl rfl (Nat.le_of_ble_eq_true rfl) ?_
  dsimp only [List.set_cons_zero, List.set_cons_succ]
  refine hn_aload_n hC dX16_init_17 rfl ?_
  refine hn_new (c9 := (c + 9)) (s9 := (s + 1653)) (ci := 17) (fs := [.null]) hC tyX18 dX16_init_18 tyX18_ok in_X18 q882 q883 q332 rfl (by decide +kernel) (by omega) (by omega) (fun q3 => ?_)
  refine hn_dup hC dX16_init_21 rfl ?_
  refine hn_callI hC q3 [] [.ref q3, .ref a] dX16_init_22 q884 q885 q332 q886 np_X18 rfl pd_X18_init (Nat.le_of_ble_eq_true rfl) hd1 (okX18_init l E A (d - 1) (by omega) q3 _ (c + 8) (s + 1644) _ _ (by omega) (by omega)) rfl (fun r4 => ?_)
  dsimp only [nc_X18_init]
  refine hn_putF (C := RX16) (T := TX16) (N := 9) hC hmn 6 1 tyX16 dX16_init_25 q948 in_X16 tyX16_ok nmX16 rfl rfl rfl rfl (by decide) rfl rfl rfl (Nat.le_of_ble_eq_true rfl) ?_
  dsimp only [List.set_cons_zero, List.set_cons_succ]
  refine hn_aload_n hC dX16_init_28 rfl ?_
  refine hn_new (c9 := (c + 7)) (s9 := (s + 1637)) (ci := 18) (fs := [.null, .null, .null, .null, .int 0, .int 0, .int 0]) hC tyX19 dX16_init_29 tyX19_ok in_X19 q892 q893 q333 rfl (by decide +kernel) (by omega) (by omega) (fun q5 => ?_)
  refine hn_dup hC dX16_init_32 rfl ?_
  refine hn_aload_n hC dX16_init_33 rfl ?_
  refine hn_get (C := RX16) (T := TX16) (N := 9) hC 7 0 dX16_init_34 q946 in_X16 rfl rfl rfl (by decide) rfl ?_
  refine hn_aload_n hC dX16_init_37 rfl ?_
  refine hn_get (C := RX16) (T := TX16) (N := 9) hC 7 1 dX16_init_38 q948 in_X16 rfl rfl rfl (by decide) rfl ?_
  refine hn_callI hC q5 [.ref q1, .ref q3] [.ref q5, .ref a] dX16_init_41 q894 q895 q333 q896 np_X19 rfl pd_X19_init (Nat.le_of_ble_eq_true rfl) hd1 (okX19_init l E A (d - 1) (by omega) q5 q1 q3 _ (c + 3) (s + 1216) _ _ (by omega) (by omega)) rfl (fun r6 => ?_)
  dsimp only [nc_X19_init]
  refine hn_putF (C := RX16) (T := TX16) (N := 9) hC hmn 11 2 tyX16 dX16_init_44 q949 in_X16 tyX16_ok nmX16 rfl rfl rfl rfl (by decide) rfl rfl rfl (Nat.le_of_ble_eq_true rfl) ?_
  dsimp only [List.set_cons_zero, List.set_cons_succ]
  refine hn_aload_n hC dX16_init_47 rfl ?_
  refine hn_sipush (v := 1024) hC dX16_init_48 rfl ?_
  refine hn_newI (c9 := (c + 2)) (s9 := (s + 192)) hC 1024 dX16_init_51 q455 (by decide) rfl (by decide) (by omega) (by omega) (fun q7 => ?_)
  refine hn_putF (C := RX16) (T := TX16) (N := 9) hC hmn 12 3 tyX16 dX16_init_53 q951 in_X16 tyX16_ok nmX16 rfl rfl rfl rfl (by decide) rfl rfl rfl (Nat.le_of_ble_eq_true rfl) ?_
  dsimp only [List.set_cons_zero, List.set_cons_succ]
  refine hn_aload_n hC dX16_init_56 rfl ?_
  refine hn_bipush (v := 64) hC dX16_init_57 rfl ?_
  refine hn_newI (c9 := (c + 1)) (s9 := (s + 128)) hC 64 dX16_init_59 q455 (by decide) rfl (by decide) (by omega) (by omega) (fun q8 => ?_)
  refine hn_putF (C := RX16) (T := TX16) (N := 9) hC hmn 13 5 tyX16 dX16_init_61 q955 in_X16 tyX16_ok nmX16 rfl rfl rfl rfl (by decide) rfl rfl rfl (Nat.le_of_ble_eq_true rfl) ?_
  dsimp only [List.set_cons_zero, List.set_cons_succ]
  refine hn_aload_n hC dX16_init_64 rfl ?_
  refine hn_sipush (v := 128) hC dX16_init_65 rfl ?_
  refine hn_newI (c9 := c) (s9 := s) hC 128 dX16_init_68 q455 (by decide) rfl (by decide) (by omega) (by omega) (fun q9 => ?_)
  refine hn_putF (C := RX16) (T := TX16) (N := 9) hC hmn 14 7 tyX16 dX16_init_70 q959 in_X16 tyX16_ok nmX16 rfl rfl rfl rfl (by decide) rfl rfl rfl (Nat.le_of_ble_eq_true rfl) ?_
  dsimp only [List.set_cons_zero, List.set_cons_succ]
  exact hn_vret (Y := (l, A, fun _ _ => 0, [])) (F := fun q => nc_X16_init E a W0 q) hC (fun k => ([q9, q8, q7, (r6 0), (r6 1), (r6 2), (r6 3), q5, (r4 0), q3, (r2 0), (r2 1), (r2 2), q1] : List Nat).getD k 0) rfl dX16_init_73
theorem hn_same {α : Type} {l : List α} {j : Nat} {x : α} (h : l[j]? = some x) : l.set j x = l := by
  apply List.ext_getElem?
  intro i
  by_cases hi : i = j
  · subst hi
    rw [List.getElem?_set_self (List.getElem?_eq_some_iff.mp h).1, h]
  · rw [List.getElem?_set_ne (Ne.symm hi)]
theorem hn_arrV {cI : ClassId} {N : Nat} {f g : Nat → Value} (h : ∀ i, i < N → f i = g i) : arrV cI N f = arrV cI N g := by
  unfold arrV
  congr 1
  apply Array.ext
  · simp
  · intro i h1 h2
    simp only [Array.size_ofFn] at h1
    simp [h i h1]
theorem hn_arr {E : hc_E} {nL pc : Nat} {X : hc_X} {lv : List (Nat × Value)} {st : List Value} {ws9 : va_W} {c9 s9 : Nat} {a n : Nat} {cA : ClassId} {f g : Nat → Int32} (j : Nat) (he : ws9[j]? = some (a, .inl (cA, n, .inl f))) (hfg : ∀ i, i < n → f i = g i) (k : hn_At E nL X pc lv st (ws9.set j (a, .inl (cA, n, .inl g))) c9 s9) : hn_At E nL X pc lv st ws9 c9 s9 := by
  intro ls H locs k9 n9 hl hR h1 h2
  have hjl := (List.getElem?_eq_some_iff.mp he).1
  refine k ls H locs k9 n9 hl ⟨?_, ?_, hR.2.2⟩ h1 h2
  · intro i q hq
    by_cases hi : i = j
    · subst hi
      rw [List.getElem?_set_self hjl] at hq
      cases hq
      have z : H[a]? = some (vp_cell cA (n, .inl f)) := hR.1 i _ he
      show H[a]? = some (vp_cell cA (n, .inl g))
      rw [z, vp_cell_i, vp_cell_i, hn_arrV (fun i hi => by rw [hfg i hi])]
    · rw [List.getElem?_set_ne (Ne.symm hi)] at hq
      exact hR.1 i q hq
  · exact hR.2.1.set he
theorem okX4_cut0 (l : Launch) (E : hc_E) (A : Nat → Prop) (d : Nat) {b r : Nat} {n0 : Int32} {ws : va_W} (k : Int32) (j : Nat) (hj : ws[j]? = some (b, .inr (3, [.ref r, .int n0]))) (c s : Nat) : hn_M l yX4_cut (ws_ yX4_cut cX4_cut 2 none) d E A [.ref b, .int k] ws c s none (fun _ => ws.set j (b, .inr (3, [.ref r, .int k]))) c s := by
  refine hn_enter (own := RX4) [(0, .ref b), (1, .int k)] pl_X4 rfl rfl (Nat.le_of_ble_eq_true rfl) (fun X hC hmn => ?_)
  refine hn_aload_n hC dX4_cut_0 rfl ?_
  refine hn_iload_n hC dX4_cut_1 rfl ?_
  refine hn_put (C := RX4) (T := TX4) (N := 2) hC j 1 tyX4 dX4_cut_2 q430 in_X4 tyX4_ok nmX4 rfl rfl hj (by decide) rfl rfl rfl (Nat.le_of_ble_eq_true rfl) ?_
  exact hn_vret (Y := (l, A, fun _ _ => 0, [])) (F := fun _ => ws.set j (b, .inr (3, [.ref r, .int k]))) hC (fun _ => 0) rfl dX4_cut_5
theorem okX3_clear0 (l : Launch) (E : hc_E) (A : Nat → Prop) (d : Nat) (hD : 1 ≤ d) {b lt r hh : Nat} {f1 f2 f3 : Value} {f : Nat → Int32} {ws : va_W} (jN jL jH : Nat) (hN : ws[jN]? = some (b, .inr (2, [.ref lt, f1, f2, f3, .int 0, .ref hh]))) (hL : ws[jL]? = some (lt, .inr (3, [.ref r, .int 0]))) (hH : ws[jH]? = some (hh, .inl (E.2.2.1 1, 256, .inl f))) (n1 : jN ≠ jL) (n2 : jN ≠ jH) (n3 : jL ≠ jH) (c s : Nat) :
    hn_M l yX3_clear (ws_ yX3_clear cX3_clear 2 none) d E A [.ref b] ws c s none (fun _ => ws.set jH (hh, .inl (E.2.2.1 1, 256, .inl (fun _ => -1)))) c s := by
  refine hn_enter (own := RX3) [(0, .ref b)] pl_X3 rfl rfl (Nat.le_of_ble_eq_true rfl) (fun X hC hmn => ?_)
  refine hn_aload_n hC dX3_clear_0 rfl ?_
  refine hn_get (C := RX3) (T := TX3) (N := 6) hC jN 0 dX3_clear_1 q436 in_X3 rfl rfl hN (by decide) rfl ?_
  refine hn_iconst (v := 0) hC dX3_clear_4 rfl ?_
  refine hn_callV (ci := 3) hC jL [.int 0] [] dX3_clear_5 q987 q988 q989 q318 q990 np_X4 rfl rfl hL pd_X4_cut (Nat.le_of_ble_eq_true rfl) hD (okX4_cut0 l E A (d - 1) 0 jL hL _ _) rfl (fun _ => ?_)
  dsimp only [Option.toList, List.nil_append]
  rw [hn_same hL]
  refine hn_aload_n hC dX3_clear_8 rfl ?_
  refine hn_iconst (v := 0) hC dX3_clear_9 rfl ?_
  refine hn_put (C := RX3) (T := TX3) (N := 6) hC jN 4 tyX3 dX3_clear_10 q440 in_X3 tyX3_ok nmX3 rfl rfl hN (by decide) rfl rfl rfl (Nat.le_of_ble_eq_true rfl) ?_
  dsimp only [List.set_cons_zero, List.set_cons_succ]
  rw [hn_same hN]
  refine hn_iconst (v := 0) hC dX3_clear_13 rfl ?_
  refine hn_istore_n hC dX3_clear_14 (by decide) ?_
  have hjl := (List.getElem?_eq_some_iff.mp hH).1
  have key : ∀ (m k : Nat), k + m = 256 → hn_At E 2 X 15 [(1, .int (nI k)), (0, .ref b)] [] (ws.set jH (hh, .inl (E.2.2.1 1, 256, .inl (fun i => if i < k then -1 else f i)))) c s := by
    intro m
    induction m with
    | zero =>
      intro k hk
      obtain rfl : k = 256 := by omega
      refine hn_iload_n hC dX3_clear_15 rfl ?_
      refine hn_sipush (v := 256) hC dX3_clear_16 rfl ?_
      refine hn_icmp_ge hC 35 dX3_clear_19 (by decide) (fun _ => ?_) (fun z => absurd (nI_le (Nat.le_refl 256) (by decide)) z)
      refine hn_arr (g := fun _ => -1) jH (List.getElem?_set_self hjl) (fun i hi => by simp [hi]) ?_
      rw [List.set_set]
      exact hn_vret (Y := (l, A, fun _ _ => 0, [])) (F := fun _ => ws.set jH (hh, .inl (E.2.2.1 1, 256, .inl (fun _ => -1)))) hC (fun _ => 0) rfl dX3_clear_35
    | succ m ih =>
      intro k hk
      refine hn_iload_n hC dX3_clear_15 rfl ?_
      refine hn_sipush (v := 256) hC dX3_clear_16 rfl ?_
      refine hn_icmp_ge hC 35 dX3_clear_19 (by decide) (fun z => absurd z (nI_ge (show k < 256 by omega) (by decide))) (fun _ => ?_)
      refine hn_aload_n hC dX3_clear_22 rfl ?_
      refine hn_get (C := RX3) (T := TX3) (N := 6) hC jN 5 dX3_clear_23 q441 in_X3 rfl rfl ((List.getElem?_set_ne (Ne.symm n2)).trans hN) (by decide) rfl ?_
      refine hn_iload_n hC dX3_clear_26 rfl ?_
      refine hn_iconst (v := -1) hC dX3_clear_27 rfl ?_
      refine hn_iast hC jH k dX3_clear_28 (List.getElem?_set_self hjl) (nI_clamp (by omega)) (fun z => by
        rcases z with z | z
        · exact nI_pos (show k < 2 ^ 31 by omega) z
        · rw [nI_clamp (show k < 2 ^ 31 by omega)] at z; omega) ?_
      rw [List.set_set]
      refine hn_iinc (v := nI (k + 1)) hC dX3_clear_29 rfl (nI_succ k).symm (by decide) ?_
      refine hn_goto hC 15 dX3_clear_32 (by decide) ?_
      have e : upd (fun i => if i < k then -1 else f i) k (-1) = (fun i => if i < k + 1 then -1 else f i) := by
        funext i
        simp only [upd]
        by_cases h1 : i = k
        · simp [h1]
        · by_cases h2 : i < k
          · simp [h1, h2, show i < k + 1 by omega]
          · simp [h1, h2, show ¬ i < k + 1 by omega]
      rw [e]
      exact hn_sub _ rfl (ih (k + 1) (by omega))
  have h0 := key 256 0 rfl
  have e : (fun i => if i < 0 then (-1 : Int32) else f i) = f := by funext i; simp
  rw [e, hn_same hH] at h0
  exact hn_sub _ rfl h0

def nc_X1_init (E : hc_E) (a : Nat) (W0 : va_W) (q : Nat → Nat) : va_W := ((q 0), .inl (E.2.2.1 2, 256, .inl (fun _ => 0))) :: ((q 1), .inr (3, [.ref (q 0), .int 0])) :: ((q 2), .inl (E.2.2.1 1, 128, .inl (fun _ => 0))) :: ((q 3), .inl (E.2.2.1 1, 64, .inl (fun _ => 0))) :: ((q 4), .inl (E.2.2.1 1, 1024, .inl (fun _ => 0))) :: ((q 5), .inl (E.2.2.1 1, 192, .inl (fun _ => 0))) :: ((q 6), .inl (E.2.2.1 1, 192, .inl (fun _ => 0))) :: ((q 7), .inr (19, [.ref (q 15), .ref (q 6), .ref (q 5), .int 0, .int 0])) :: ((q 8), .inl (E.2.2.1 1, 32, .inl (fun _ => 0))) :: ((q 9), .inr (18, [.ref (q 15), .ref (q 11), .ref (q 7), .ref (q 8), .int 0, .int 1, .int 0])) :: ((q 10), .inl (E.2.2.1 1, 9, .inl (upd (upd (fun _ => 0) 7 (-1)) 8 (-1)))) :: ((q 11), .inr (17, [.ref (q 10)])) :: ((q 12), .inl (E.2.2.1 3, 256, .inl (fun _ => 0))) :: ((q 13), .inl (E.2.2.1 2, 262144, .inl (fun _ => 0))) :: ((q 14), .inl (E.2.2.1 1, 262144, .inl (fun _ => 0))) :: ((q 15), .inr (16, [.int 20, .ref (q 14), .ref (q 13), .ref (q 12), .int 0])) :: ((q 16), .inr (15, [.ref (q 15), .ref (q 11), .ref (q 9), .ref (q 4), .int 0, .ref (q 3), .int 0, .ref (q 2), .int 0])) :: ((q 17), .inl (E.2.2.1 1, 256, .inl (fun _ => 0))) :: ((q 18), .inl (E.2.2.1 1, 256, .inl (fun _ => 0))) :: ((q 19), .inl (E.2.2.1 1, 256, .inl (fun _ => 0))) :: ((q 20), .inl (E.2.2.1 1, 256, .inl (fun _ => 0))) :: ((q 21), .inr (14, [.ref (q 63), .ref (q 40), .ref (q 20), .ref (q 19), .ref (q 18), .ref (q 17), .int 0, .int 0, .int 0])) :: ((q 22), .inr (13, [.ref (q 63), .int 0])) :: ((q 23), .inl (E.2.2.1 1, 4, .inl (fun _ => 0))) :: ((q 24), .inl (E.2.2.1 1, 256, .inl (fun _ => 0))) :: ((q 25), .inl (E.2.2.1 1, 64, .inl (fun _ => 0))) :: ((q 26), .inr (12, [.ref (q 63), .ref (q 49), .ref (q 40), .ref (q 78), .ref (q 67), .ref (q 31), .ref (q 22), .ref (q 21), .ref (q 25), .ref (q 24), .ref (q 23), .int 0, .int 0, .int 0, .int 0, .int 0, .int (-1), .int 0, .int 0])) :: ((q 27), .inl (E.2.2.1 1, 256, .inl (fun _ => 0))) :: ((q 28), .inl (E.2.2.1 1, 256, .inl (fun _ => 0))) :: ((q 29), .inl (E.2.2.1 1, 256, .inl (fun _ => 0))) :: ((q 30), .inl (E.2.2.1 1, 1024, .inl (fun _ => 0))) :: ((q 31), .inr (11, [.ref (q 30), .int 0, .ref (q 29), .int 0, .ref (q 28), .ref (q 27), .int 0])) :: ((q 32), .inl (E.2.2.1 1, 64, .inl (fun _ => 0))) :: ((q 33), .inl (E.2.2.1 1, 64, .inl (fun _ => 0))) :: ((q 34), .inl (E.2.2.1 2, 256, .inl (fun _ => 0))) :: ((q 35), .inr (3, [.ref (q 34), .int 0])) :: ((q 36), .inl (E.2.2.1 1, 64, .inl (fun _ => 0))) :: ((q 37), .inl (E.2.2.1 1, 256, .inl (fun _ => 0))) :: ((q 38), .inl (E.2.2.1 1, 256, .inl (fun _ => 0))) :: ((q 39), .inl (E.2.2.1 1, 256, .inl (fun _ => 0))) :: ((q 40), .inr (10, [.ref (q 39), .ref (q 38), .ref (q 37), .int 0, .ref (q 36), .int 0])) :: ((q 41), .inl (E.2.2.1 1, 200, .inl (fun _ => 0))) :: ((q 42), .inl (E.2.2.1 1, 256, .inl (fun _ => 0))) :: ((q 43), .inl (E.2.2.1 1, 256, .inl (fun _ => 0))) :: ((q 44), .inl (E.2.2.1 1, 256, .inl (fun _ => 0))) :: ((q 45), .inl (E.2.2.1 1, 256, .inl (fun _ => 0))) :: ((q 46), .inl (E.2.2.1 1, 256, .inl (fun _ => 0))) :: ((q 47), .inr (9, [.ref (q 46), .ref (q 45), .ref (q 44), .ref (q 43), .int 0, .ref (q 42), .ref (q 41), .int 0])) :: ((q 48), .inr (8, [.int 0, .int 0])) :: ((q 49), .inr (7, [.ref (q 63), .ref (q 74), .ref (q 78), .ref (q 48), .ref (q 47), .ref (q 40), .ref (q 35), .ref (q 33), .ref (q 32), .int 0, .int 0, .int 0, .int 0, .int 0, .int 0, .int 0])) :: ((q 50), .inl (E.2.2.1 1, 1024, .inl (fun _ => 0))) :: ((q 51), .inl (E.2.2.1 1, 1024, .inl (fun _ => 0))) :: ((q 52), .inr (6, [.ref (q 65), .ref (q 63), .int 0, .ref (q 51), .ref (q 50), .int 0])) :: ((q 53), .inl (E.2.2.1 1, 256, .inl (fun _ => 0))) :: ((q 54), .inl (E.2.2.1 1, 256, .inl (fun _ => 0))) :: ((q 55), .inl (E.2.2.1 1, 256, .inl (fun _ => 0))) :: ((q 56), .inl (E.2.2.1 1, 256, .inl (fun _ => 0))) :: ((q 57), .inl (E.2.2.1 1, 256, .inl (fun _ => 0))) :: ((q 58), .inl (E.2.2.1 1, 256, .inl (fun _ => 0))) :: ((q 59), .inl (E.2.2.1 1, 256, .inl (fun _ => 0))) :: ((q 60), .inl (E.2.2.1 1, 256, .inl (fun _ => 0))) :: ((q 61), .inl (E.2.2.1 1, 256, .inl (fun _ => 0))) :: ((q 62), .inl (E.2.2.1 1, 256, .inl (fun _ => 0))) :: ((q 63), .inr (5, [.ref (q 62), .ref (q 61), .ref (q 60), .ref (q 59), .ref (q 58), .ref (q 57), .ref (q 56), .ref (q 55), .ref (q 54), .ref (q 53), .int 0])) :: ((q 64), .inl (E.2.2.1 4, 20, .inr (.inr (.inr (.inr (hn_sf E [122, 123, 124, 125, 126, 127, 128, 129, 130, 131, 132, 133, 134, 135, 136, 137, 138, 139, 140, 141])))))) :: ((q 65), .inr (4, [.ref (q 78), .ref (q 74), .ref (q 67), .ref (q 64), .null, .int 0, .int 0, .int 0, .int 0, .int 0, .int 0])) :: ((q 66), .inl (E.2.2.1 2, 256, .inl (fun _ => 0))) :: ((q 67), .inr (3, [.ref (q 66), .int 0])) :: ((q 68), .inl (E.2.2.1 1, 256, .inl (fun _ => -1))) :: ((q 69), .inl (E.2.2.1 1, 64, .inl (fun _ => 0))) :: ((q 70), .inl (E.2.2.1 1, 64, .inl (fun _ => 0))) :: ((q 71), .inl (E.2.2.1 1, 64, .inl (fun _ => 0))) :: ((q 72), .inl (E.2.2.1 2, 256, .inl (fun _ => 0))) :: ((q 73), .inr (3, [.ref (q 72), .int 0])) :: ((q 74), .inr (2, [.ref (q 73), .ref (q 71), .ref (q 70), .ref (q 69), .int 0, .ref (q 68)])) :: ((q 75), .inl (E.2.2.1 4, 15, .inr (.inr (.inr (.inr (hn_sf E [30, 31, 32, 33, 33, 34, 33, 35, 35, 31, 33, 32, 36, 37, 38])))))) :: ((q 76), .inl (E.2.2.1 4, 15, .inr (.inr (.inr (.inr (hn_sf E [15, 16, 17, 18, 19, 20, 21, 22, 23, 24, 25, 26, 27, 28, 29])))))) :: ((q 77), .inl (E.2.2.1 4, 15, .inr (.inr (.inr (.inr (hn_sf E [0, 1, 2, 3, 4, 5, 6, 7, 8, 9, 10, 11, 12, 13, 14])))))) :: ((q 78), .inr (1, [.ref (q 77), .ref (q 76), .ref (q 75)])) :: (a, .inr (0, [.ref (q 78), .ref (q 74), .ref (q 67), .ref (q 65), .ref (q 63), .ref (q 52), .ref (q 49), .ref (q 31), .ref (q 26), .ref (q 16), .ref (q 1), .int (-1), .int 0, .int 0, .int 0, .int 0, .int 0, .int 100000])) :: W0
set_option maxRecDepth 20000 in
set_option maxHeartbeats 4000000 in
theorem okX1_init (l : Launch) (E : hc_E) (A : Nat → Prop) (d : Nat) (hD : 4 ≤ d) (a : Nat) (W0 : va_W) (c s c0 s0 : Nat) (hc0 : c + 79 = c0) (hs0 : s + 538051 = s0) : hn_M l yX1_init (ws_ yX1_init cX1_init 1 none) d E A [.ref a] ((a, .inr (0, [.null, .null, .null, .null, .null, .null, .null, .null, .null, .null, .null, .int 0, .int 0, .int 0, .int 0, .int 0, .int 0, .int 0])) :: W0) c0 s0 none (fun q => nc_X1_init E a W0 q) c s := by
  have hd1 : 1 ≤ d := by omega
  refine hn_enter (own := RX1) [(0, .ref a)] pl_X1 rfl rfl (Nat.le_of_ble_eq_true rfl) (fun X hC hmn => ?_)
  refine hn_aload_n hC dX1_init_0 rfl ?_
  refine hn_obj hC dX1_init_1 q356 q357 q358 hd1 (by simp) ?_
  refine hn_aload_n hC dX1_init_4 rfl ?_
  refine hn_new (c9 := (c + 78)) (s9 := (s + 538048)) (ci := 1) (fs := [.null, .null, .null]) hC tyX2 dX1_init_5 tyX2_ok in_X2 q359 q360 q316 rfl (by decide +kernel) (by omega) (by omega) (fun q1 => ?_)
  refine hn_dup hC dX1_init_8 rfl ?_
  refine hn_callIN hC q1 [] [.ref q1, .ref a] dX1_init_9 (List.mem_of_getElem? (i := 0) rfl) q362 q316 q363 np_X2 rfl pd_X2_init (Nat.le_of_ble_eq_true rfl) hd1 (okX2_init l E A (d - 1) (by omega) q1 _ (c + 75) (s + 538003) _ _ (by omega) (by omega)) rfl (fun r2 => ?_)
  dsimp only [nc_X2_init]
  refine hn_putF (C := RX1) (T := TX1) (N := 18) hC hmn 4 0 tyX1 dX1_init_12 q991 in_X1 tyX1_ok nmX1 rfl rfl rfl rfl (by decide) rfl rfl rfl (Nat.le_of_ble_eq_true rfl) ?_
  dsimp only [List.set_cons_zero, List.set_cons_succ]
  refine hn_aload_n hC dX1_init_15 rfl ?_
  refine hn_new (c9 := (c + 74)) (s9 := (s + 537997)) (ci := 2) (fs := [.null, .null, .null, .null, .int 0, .null]) hC tyX3 dX1_init_16 tyX3_ok in_X3 q417 q418 q317 rfl (by decide +kernel) (by omega) (by omega) (fun q3 => ?_)
  refine hn_dup hC dX1_init_19 rfl ?_
  refine hn_callIN hC q3 [] [.ref q3, .ref a] dX1_init_20 (List.mem_of_getElem? (i := 1) rfl) q420 q317 q421 np_X3 rfl pd_X3_init (Nat.le_of_ble_eq_true rfl) hd1 (okX3_init l E A (d - 1) (by omega) q3 _ (c + 68) (s + 537291) _ _ (by omega) (by omega)) rfl (fun r4 => ?_)
  dsimp only [nc_X3_init]
  refine hn_putF (C := RX1) (T := TX1) (N := 18) hC hmn 11 1 tyX1 dX1_init_23 q992 in_X1 tyX1_ok nmX1 rfl rfl rfl rfl (by decide) rfl rfl rfl (Nat.le_of_ble_eq_true rfl) ?_
  dsimp only [List.set_cons_zero, List.set_cons_succ]
  refine hn_aload_n hC dX1_init_26 rfl ?_
  refine hn_new (c9 := (c + 67)) (s9 := (s + 537289)) (ci := 3) (fs := [.null, .int 0]) hC tyX4 dX1_init_27 tyX4_ok in_X4 q456 q424 q318 rfl (by decide +kernel) (by omega) (by omega) (fun q5 => ?_)
  refine hn_dup hC dX1_init_30 rfl ?_
  refine hn_callIN hC q5 [] [.ref q5, .ref a] dX1_init_31 (List.mem_of_getElem? (i := 2) rfl) q426 q318 q427 np_X4 rfl pd_X4_init (Nat.le_of_ble_eq_true rfl) hd1 (okX4_init l E A (d - 1) (by omega) q5 _ (c + 66) (s + 537033) _ _ (by omega) (by omega)) rfl (fun r6 => ?_)
  dsimp only [nc_X4_init]
  refine hn_putF (C := RX1) (T := TX1) (N := 18) hC hmn 13 2 tyX1 dX1_init_34 q993 in_X1 tyX1_ok nmX1 rfl rfl rfl rfl (by decide) rfl rfl rfl (Nat.le_of_ble_eq_true rfl) ?_
  dsimp only [List.set_cons_zero, List.set_cons_succ]
  refine hn_aload_n hC dX1_init_37 rfl ?_
  refine hn_new (c9 := (c + 65)) (s9 := (s + 537022)) (ci := 4) (fs := [.null, .null, .null, .null, .null, .int 0, .int 0, .int 0, .int 0, .int 0, .int 0]) hC tyX5 dX1_init_38 tyX5_ok in_X5 q458 q459 q319 rfl (by decide +kernel) (by omega) (by omega) (fun q7 => ?_)
  refine hn_dup hC dX1_init_41 rfl ?_
  refine hn_aload_n hC dX1_init_42 rfl ?_
  refine hn_get (C := RX1) (T := TX1) (N := 18) hC 14 0 dX1_init_43 q991 in_X1 rfl rfl rfl (by decide) rfl ?_
  refine hn_aload_n hC dX1_init_46 rfl ?_
  refine hn_get (C := RX1) (T := TX1) (N := 18) hC 14 1 dX1_init_47 q992 in_X1 rfl rfl rfl (by decide) rfl ?_
  refine hn_aload_n hC dX1_init_50 rfl ?_
  refine hn_get (C := RX1) (T := TX1) (N := 18) hC 14 2 dX1_init_51 q993 in_X1 rfl rfl rfl (by decide) rfl ?_
  refine hn_callI hC q7 [.ref q1, .ref q3, .ref q5] [.ref q7, .ref a] dX1_init_54 q460 q461 q319 q462 np_X5 rfl pd_X5_init (Nat.le_of_ble_eq_true rfl) hd1 (okX5_init l E A (d - 1) (by omega) q7 q1 q3 q5 _ (c + 64) (s + 537002) _ _ (by omega) (by omega)) rfl (fun r8 => ?_)
  dsimp only [nc_X5_init]
  refine hn_putF (C := RX1) (T := TX1) (N := 18) hC hmn 15 3 tyX1 dX1_init_57 q994 in_X1 tyX1_ok nmX1 rfl rfl rfl rfl (by decide) rfl rfl rfl (Nat.le_of_ble_eq_true rfl) ?_
  dsimp only [List.set_cons_zero, List.set_cons_succ]
  refine hn_aload_n hC dX1_init_60 rfl ?_
  refine hn_new (c9 := (c + 63)) (s9 := (s + 536991)) (ci := 5) (fs := [.null, .null, .null, .null, .null, .null, .null, .null, .null, .null, .int 0]) hC tyX6 dX1_init_61 tyX6_ok in_X6 q519 q520 q320 rfl (by decide +kernel) (by omega) (by omega) (fun q9 => ?_)
  refine hn_dup hC dX1_init_64 rfl ?_
  refine hn_callIN hC q9 [] [.ref q9, .ref a] dX1_init_65 (List.mem_of_getElem? (i := 3) rfl) q522 q320 q523 np_X6 rfl pd_X6_init (Nat.le_of_ble_eq_true rfl) hd1 (okX6_init l E A (d - 1) (by omega) q9 _ (c + 53) (s + 534431) _ _ (by omega) (by omega)) rfl (fun r10 => ?_)
  dsimp only [nc_X6_init]
  refine hn_putF (C := RX1) (T := TX1) (N := 18) hC hmn 26 4 tyX1 dX1_init_68 q995 in_X1 tyX1_ok nmX1 rfl rfl rfl rfl (by decide) rfl rfl rfl (Nat.le_of_ble_eq_true rfl) ?_
  dsimp only [List.set_cons_zero, List.set_cons_succ]
  refine hn_aload_n hC dX1_init_71 rfl ?_
  refine hn_new (c9 := (c + 52)) (s9 := (s + 534425)) (ci := 6) (fs := [.null, .null, .int 0, .null, .null, .int 0]) hC tyX7 dX1_init_72 tyX7_ok in_X7 q559 q560 q321 rfl (by decide +kernel) (by omega) (by omega) (fun q11 => ?_)
  refine hn_dup hC dX1_init_75 rfl ?_
  refine hn_aload_n hC dX1_init_76 rfl ?_
  refine hn_get (C := RX1) (T := TX1) (N := 18) hC 27 3 dX1_init_77 q994 in_X1 rfl rfl rfl (by decide) rfl ?_
  refine hn_aload_n hC dX1_init_80 rfl ?_
  refine hn_get (C := RX1) (T := TX1) (N := 18) hC 27 4 dX1_init_81 q995 in_X1 rfl rfl rfl (by decide) rfl ?_
  refine hn_callI hC q11 [.ref q7, .ref q9] [.ref q11, .ref a] dX1_init_84 q561 q562 q321 q563 np_X7 rfl pd_X7_init (Nat.le_of_ble_eq_true rfl) hd1 (okX7_init l E A (d - 1) (by omega) q11 q7 q9 _ (c + 50) (s + 532377) _ _ (by omega) (by omega)) rfl (fun r12 => ?_)
  dsimp only [nc_X7_init]
  refine hn_putF (C := RX1) (T := TX1) (N := 18) hC hmn 29 5 tyX1 dX1_init_87 q996 in_X1 tyX1_ok nmX1 rfl rfl rfl rfl (by decide) rfl rfl rfl (Nat.le_of_ble_eq_true rfl) ?_
  dsimp only [List.set_cons_zero, List.set_cons_succ]
  refine hn_aload_n hC dX1_init_90 rfl ?_
  refine hn_new (c9 := (c + 49)) (s9 := (s + 532361)) (ci := 7) (fs := [.null, .null, .null, .null, .null, .null, .null, .null, .null, .int 0, .int 0, .int 0, .int 0, .int 0, .int 0, .int 0]) hC tyX8 dX1_init_91 tyX8_ok in_X8 q584 q585 q322 rfl (by decide +kernel) (by omega) (by omega) (fun q13 => ?_)
  refine hn_dup hC dX1_init_94 rfl ?_
  refine hn_aload_n hC dX1_init_95 rfl ?_
  refine hn_get (C := RX1) (T := TX1) (N := 18) hC 30 4 dX1_init_96 q995 in_X1 rfl rfl rfl (by decide) rfl ?_
  refine hn_aload_n hC dX1_init_99 rfl ?_
  refine hn_get (C := RX1) (T := TX1) (N := 18) hC 30 1 dX1_init_100 q992 in_X1 rfl rfl rfl (by decide) rfl ?_
  refine hn_aload_n hC dX1_init_103 rfl ?_
  refine hn_get (C := RX1) (T := TX1) (N := 18) hC 30 0 dX1_init_104 q991 in_X1 rfl rfl rfl (by decide) rfl ?_
  refine hn_callI hC q13 [.ref q9, .ref q3, .ref q1] [.ref q13, .ref a] dX1_init_107 q586 q587 q322 q588 np_X8 rfl pd_X8_init (Nat.le_of_ble_eq_true rfl) hd1 (okX8_init l E A (d - 1) (by omega) q13 q9 q3 q1 _ (c + 32) (s + 529647) _ _ (by omega) (by omega)) rfl (fun r14 => ?_)
  dsimp only [nc_X8_init]
  refine hn_putF (C := RX1) (T := TX1) (N := 18) hC hmn 47 6 tyX1 dX1_init_110 q997 in_X1 tyX1_ok nmX1 rfl rfl rfl rfl (by decide) rfl rfl rfl (Nat.le_of_ble_eq_true rfl) ?_
  dsimp only [List.set_cons_zero, List.set_cons_succ]
  refine hn_aload_n hC dX1_init_113 rfl ?_
  refine hn_new (c9 := (c + 31)) (s9 := (s + 529640)) (ci := 11) (fs := [.null, .int 0, .null, .int 0, .null, .null, .int 0]) hC tyX12 dX1_init_114 tyX12_ok in_X12 q710 q711 q326 rfl (by decide +kernel) (by omega) (by omega) (fun q15 => ?_)
  refine hn_dup hC dX1_init_117 rfl ?_
  refine hn_callIN hC q15 [] [.ref q15, .ref a] dX1_init_118 (List.mem_of_getElem? (i := 4) rfl) q713 q326 q714 np_X12 rfl pd_X12_init (Nat.le_of_ble_eq_true rfl) hd1 (okX12_init l E A (d - 1) (by omega) q15 _ (c + 27) (s + 527848) _ _ (by omega) (by omega)) rfl (fun r16 => ?_)
  dsimp only [nc_X12_init]
  refine hn_putF (C := RX1) (T := TX1) (N := 18) hC hmn 52 7 tyX1 dX1_init_121 q998 in_X1 tyX1_ok nmX1 rfl rfl rfl rfl (by decide) rfl rfl rfl (Nat.le_of_ble_eq_true rfl) ?_
  dsimp only [List.set_cons_zero, List.set_cons_succ]
  refine hn_aload_n hC dX1_init_124 rfl ?_
  refine hn_new (c9 := (c + 26)) (s9 := (s + 527829)) (ci := 12) (fs := [.null, .null, .null, .null, .null, .null, .null, .null, .null, .null, .null, .int 0, .int 0, .int 0, .int 0, .int 0, .int 0, .int 0, .int 0]) hC tyX13 dX1_init_125 tyX13_ok in_X13 q738 q739 q327 rfl (by decide +kernel) (by omega) (by omega) (fun q17 => ?_)
  refine hn_dup hC dX1_init_128 rfl ?_
  refine hn_aload_n hC dX1_init_129 rfl ?_
  refine hn_get (C := RX1) (T := TX1) (N := 18) hC 53 4 dX1_init_130 q995 in_X1 rfl rfl rfl (by decide) rfl ?_
  refine hn_aload_n hC dX1_init_133 rfl ?_
  refine hn_get (C := RX1) (T := TX1) (N := 18) hC 53 6 dX1_init_134 q997 in_X1 rfl rfl rfl (by decide) rfl ?_
  refine hn_aload_n hC dX1_init_137 rfl ?_
  refine hn_get (C := RX1) (T := TX1) (N := 18) hC 53 0 dX1_init_138 q991 in_X1 rfl rfl rfl (by decide) rfl ?_
  refine hn_aload_n hC dX1_init_141 rfl ?_
  refine hn_get (C := RX1) (T := TX1) (N := 18) hC 53 2 dX1_init_142 q993 in_X1 rfl rfl rfl (by decide) rfl ?_
  refine hn_aload_n hC dX1_init_145 rfl ?_
  refine hn_get (C := RX1) (T := TX1) (N := 18) hC 53 7 dX1_init_146 q998 in_X1 rfl rfl rfl (by decide) rfl ?_
  refine hn_callI hC q17 [.ref q9, .ref q13, .ref q1, .ref q5, .ref q15] [.ref q17, .ref a] dX1_init_149 q740 q741 q327 q742 np_X13 rfl pd_X13_init (Nat.le_of_ble_eq_true rfl) hd1 (okX13_init l E A (d - 1) (by omega) q17 q9 q13 q1 q5 q15 _ (c + 17) (s + 526470) _ _ (by omega) (by omega) (j := 22) (v := (r14 8)) rfl rfl) rfl (fun r18 => ?_)
  dsimp only [nc_X13_init]
  refine hn_putF (C := RX1) (T := TX1) (N := 18) hC hmn 62 8 tyX1 dX1_init_152 q999 in_X1 tyX1_ok nmX1 rfl rfl rfl rfl (by decide) rfl rfl rfl (Nat.le_of_ble_eq_true rfl) ?_
  dsimp only [List.set_cons_zero, List.set_cons_succ]
  refine hn_aload_n hC dX1_init_155 rfl ?_
  refine hn_new (c9 := (c + 16)) (s9 := (s + 526461)) (ci := 15) (fs := [.null, .null, .null, .null, .int 0, .null, .int 0, .null, .int 0]) hC tyX16 dX1_init_156 tyX16_ok in_X16 q853 q854 q330 rfl (by decide +kernel) (by omega) (by omega) (fun q19 => ?_)
  refine hn_dup hC dX1_init_159 rfl ?_
  refine hn_callIN hC q19 [] [.ref q19, .ref a] dX1_init_160 (List.mem_of_getElem? (i := 5) rfl) q856 q330 q857 np_X16 rfl pd_X16_init (Nat.le_of_ble_eq_true rfl) hd1 (okX16_init l E A (d - 1) (by omega) q19 _ (c + 2) (s + 258) _ _ (by omega) (by omega)) rfl (fun r20 => ?_)
  dsimp only [nc_X16_init]
  refine hn_putF (C := RX1) (T := TX1) (N := 18) hC hmn 77 9 tyX1 dX1_init_163 q1000 in_X1 tyX1_ok nmX1 rfl rfl rfl rfl (by decide) rfl rfl rfl (Nat.le_of_ble_eq_true rfl) ?_
  dsimp only [List.set_cons_zero, List.set_cons_succ]
  refine hn_aload_n hC dX1_init_166 rfl ?_
  refine hn_new (c9 := (c + 1)) (s9 := (s + 256)) (ci := 3) (fs := [.null, .int 0]) hC tyX4 dX1_init_167 tyX4_ok in_X4 q456 q424 q318 rfl (by decide +kernel) (by omega) (by omega) (fun q21 => ?_)
  refine hn_dup hC dX1_init_170 rfl ?_
  refine hn_callIN hC q21 [] [.ref q21, .ref a] dX1_init_171 (List.mem_of_getElem? (i := 2) rfl) q426 q318 q427 np_X4 rfl pd_X4_init (Nat.le_of_ble_eq_true rfl) hd1 (okX4_init l E A (d - 1) (by omega) q21 _ c s _ _ (by omega) (by omega)) rfl (fun r22 => ?_)
  dsimp only [nc_X4_init]
  refine hn_putF (C := RX1) (T := TX1) (N := 18) hC hmn 79 10 tyX1 dX1_init_174 q1001 in_X1 tyX1_ok nmX1 rfl rfl rfl rfl (by decide) rfl rfl rfl (Nat.le_of_ble_eq_true rfl) ?_
  dsimp only [List.set_cons_zero, List.set_cons_succ]
  refine hn_aload_n hC dX1_init_177 rfl ?_
  refine hn_iconst (v := -1) hC dX1_init_178 rfl ?_
  refine hn_put (C := RX1) (T := TX1) (N := 18) hC 79 11 tyX1 dX1_init_179 q1002 in_X1 tyX1_ok nmX1 rfl rfl rfl (by decide) rfl rfl rfl (Nat.le_of_ble_eq_true rfl) ?_
  dsimp only [List.set_cons_zero, List.set_cons_succ]
  refine hn_aload_n hC dX1_init_182 rfl ?_
  refine hn_ldc hC dX1_init_183 q982 ?_
  refine hn_put (C := RX1) (T := TX1) (N := 18) hC 79 17 tyX1 dX1_init_185 q1008 in_X1 tyX1_ok nmX1 rfl rfl rfl (by decide) rfl rfl rfl (Nat.le_of_ble_eq_true rfl) ?_
  dsimp only [List.set_cons_zero, List.set_cons_succ]
  refine hn_aload_n hC dX1_init_188 rfl ?_
  refine hn_get (C := RX1) (T := TX1) (N := 18) hC 79 1 dX1_init_189 q992 in_X1 rfl rfl rfl (by decide) rfl ?_
  refine hn_callV (ci := 2) hC 74 [] [] dX1_init_192 q983 q984 q985 q317 q986 np_X3 rfl rfl rfl pd_X3_clear (Nat.le_of_ble_eq_true rfl) hd1 (okX3_clear0 l E A (d - 1) (by omega) 74 73 68 rfl rfl rfl (by decide) (by decide) (by decide) _ _) rfl (fun r23 => ?_)
  dsimp only [Option.toList, List.nil_append, List.set_cons_zero, List.set_cons_succ]
  exact hn_vret (Y := (l, A, fun _ _ => 0, [])) (F := fun q => nc_X1_init E a W0 q) hC (fun k => ([(r22 0), q21, (r20 0), (r20 1), (r20 2), (r20 3), (r20 4), (r20 5), (r20 6), (r20 7), (r20 8), (r20 9), (r20 10), (r20 11), (r20 12), (r20 13), q19, (r18 0), (r18 1), (r18 2), (r18 3), (r18 4), (r18 5), (r18 6), (r18 7), (r18 8), q17, (r16 0), (r16 1), (r16 2), (r16 3), q15, (r14 0), (r14 1), (r14 2), (r14 3), (r14 4), (r14 5), (r14 6), (r14 7), (r14 8), (r14 9), (r14 10), (r14 11), (r14 12), (r14 13), (r14 14), (r14 15), (r14 16), q13, (r12 0), (r12 1), q11, (r10 0), (r10 1), (r10 2), (r10 3), (r10 4), (r10 5), (r10 6), (r10 7), (r10 8), (r10 9), q9, (r8 0), q7, (r6 0), q5, (r4 0), (r4 1), (r4 2), (r4 3), (r4 4), (r4 5), q3, (r2 0), (r2 1), (r2 2), q1] : List Nat).getD k 0) rfl dX1_init_195
def nc_X21_init (E : hc_E) (a : Nat) (W0 : va_W) (q : Nat → Nat) : va_W := ((q 0), .inl (E.2.2.1 1, 128, .inl (fun _ => 0))) :: ((q 1), .inl (E.2.2.1 1, 64, .inl (fun _ => 0))) :: ((q 2), .inl (E.2.2.1 1, 1024, .inl (fun _ => 0))) :: ((q 3), .inl (E.2.2.1 1, 300, .inl (fun _ => 0))) :: ((q 4), .inl (E.2.2.1 1, 300, .inl (fun _ => 0))) :: ((q 5), .inl (E.2.2.1 1, 200000, .inl (fun _ => 0))) :: ((q 6), .inl (E.2.2.1 1, 200000, .inl (fun _ => 0))) :: ((q 7), .inl (E.2.2.1 1, 200000, .inl (fun _ => 0))) :: ((q 8), .inl (E.2.2.1 1, 37000, .inl (fun _ => 0))) :: ((q 9), .inl (E.2.2.1 1, 600, .inl (fun _ => 0))) :: ((q 10), .inl (E.2.2.1 1, 2100, .inl (fun _ => 0))) :: ((q 11), .inl (E.2.2.1 1, 2100, .inl (fun _ => 0))) :: ((q 12), .inl (E.2.2.1 1, 2100, .inl (fun _ => 0))) :: ((q 13), .inl (E.2.2.1 3, 2100, .inl (fun _ => 0))) :: ((q 14), .inl (E.2.2.1 2, 2100, .inl (fun _ => 0))) :: ((q 15), .inl (E.2.2.1 1, 600, .inl (fun _ => 0))) :: ((q 16), .inl (E.2.2.1 1, 600, .inl (fun _ => 0))) :: ((q 17), .inl (E.2.2.1 1, 2100, .inl (fun _ => 0))) :: ((q 18), .inl (E.2.2.1 1, 2100, .inl (fun _ => 0))) :: ((q 19), .inl (E.2.2.1 1, 2100, .inl (fun _ => 0))) :: ((q 20), .inl (E.2.2.1 1, 2048, .inl (fun _ => 0))) :: ((q 21), .inl (E.2.2.1 1, 2048, .inl (fun _ => 0))) :: ((q 22), .inl (E.2.2.1 1, 2048, .inl (fun _ => 0))) :: ((q 23), .inl (E.2.2.1 1, 4200, .inl (fun _ => 0))) :: ((q 24), .inl (E.2.2.1 1, 4200, .inl (fun _ => 0))) :: ((q 25), .inl (E.2.2.1 1, 4200, .inl (fun _ => 0))) :: ((q 26), .inl (E.2.2.1 1, 4200, .inl (fun _ => 0))) :: ((q 27), .inl (E.2.2.1 1, 4200, .inl (fun _ => 0))) :: ((q 28), .inl (E.2.2.1 1, 4200, .inl (fun _ => 0))) :: ((q 29), .inl (E.2.2.1 1, 4200, .inl (fun _ => 0))) :: ((q 30), .inl (E.2.2.1 1, 4200, .inl (fun _ => 0))) :: ((q 31), .inl (E.2.2.1 1, 4200, .inl (fun _ => 0))) :: ((q 32), .inl (E.2.2.1 2, 4200, .inl (fun _ => 0))) :: ((q 33), .inl (E.2.2.1 1, 4100, .inl (fun _ => 0))) :: ((q 34), .inl (E.2.2.1 2, 4100, .inl (fun _ => 0))) :: ((q 35), .inl (E.2.2.1 1, 4100, .inl (fun _ => 0))) :: ((q 36), .inl (E.2.2.1 1, 4100, .inl (fun _ => 0))) :: ((q 37), .inl (E.2.2.1 2, 4096, .inl (fun _ => 0))) :: ((q 38), .inl (E.2.2.1 2, 4096, .inl (fun _ => 0))) :: ((q 39), .inl (E.2.2.1 4, 15, .inr (.inr (.inr (.inr (hn_sf E [112, 113, 114, 115, 115, 116, 115, 117, 117, 113, 115, 114, 118, 119, 120])))))) :: ((q 40), .inl (E.2.2.1 4, 15, .inr (.inr (.inr (.inr (hn_sf E [97, 98, 99, 100, 101, 102, 103, 104, 105, 106, 107, 108, 109, 110, 111])))))) :: ((q 41), .inl (E.2.2.1 4, 43, .inr (.inr (.inr (.inr (hn_sf E [54, 55, 56, 57, 58, 59, 60, 61, 62, 63, 64, 65, 66, 67, 68, 69, 70, 71, 72, 73, 74, 75, 76, 77, 78, 79, 80, 81, 82, 83, 84, 85, 86, 87, 88, 89, 90, 91, 92, 93, 94, 95, 96])))))) :: ((q 42), .inl (E.2.2.1 4, 15, .inr (.inr (.inr (.inr (hn_sf E [39, 40, 41, 42, 43, 44, 45, 46, 47, 48, 49, 50, 51, 52, 53])))))) :: (a, .inr (20, [.ref (q 42), .ref (q 41), .ref (q 40), .ref (q 39), .int 0, .ref (q 38), .int 0, .ref (q 37), .int 0, .int 0, .int 0, .ref (q 36), .ref (q 35), .ref (q 34), .ref (q 33), .int 0, .int 0, .int 0, .ref (q 32), .ref (q 31), .ref (q 30), .ref (q 29), .ref (q 28), .ref (q 27), .ref (q 26), .ref (q 25), .ref (q 24), .ref (q 23), .int 0, .int 0, .int 0, .ref (q 22), .ref (q 21), .ref (q 20), .int 0, .int 0, .int 0, .int 0, .int 0, .ref (q 19), .ref (q 18), .ref (q 17), .int 0, .int 0, .ref (q 16), .ref (q 15), .int 0, .int 0, .int 0, .int 0, .int 0, .int 0, .int 0, .int 0, .ref (q 14), .ref (q 13), .ref (q 12), .ref (q 11), .ref (q 10), .int 0, .int 0, .ref (q 9), .int 0, .int 0, .int 0, .int 0, .ref (q 8), .int 0, .int 0, .int 0, .ref (q 7), .ref (q 6), .int 0, .ref (q 5), .int 0, .ref (q 4), .ref (q 3), .int 0, .int 0, .int 0, .int 0, .int 0, .ref (q 2), .int 0, .ref (q 1), .ref (q 0), .int 100000])) :: W0
set_option maxRecDepth 20000 in
set_option maxHeartbeats 4000000 in
theorem okX21_init (l : Launch) (E : hc_E) (A : Nat → Prop) (d : Nat) (hD : 1 ≤ d) (a : Nat) (W0 : va_W) (c s c0 s0 : Nat) (hc0 : c + 43 = c0) (hs0 : s + 730240 = s0) : hn_M l yX21_init (ws_ yX21_init cX21_init 1 none) d E A [.ref a] ((a, .inr (20, [.null, .null, .null, .null, .int 0, .null, .int 0, .null, .int 0, .int 0, .int 0, .null, .null, .null, .null, .int 0, .int 0, .int 0, .null, .null, .null, .null, .null, .null, .null, .null, .null, .null, .int 0, .int 0, .int 0, .null, .null, .null, .int 0, .int 0, .int 0, .int 0, .int 0, .null, .null, .null, .int 0, .int 0, .null, .null, .int 0, .int 0, .int 0, .int 0, .int 0, .int 0, .int 0, .int 0, .null, .null, .null, .null, .null, .int 0, .int 0, .null, .int 0, .int 0, .int 0, .int 0, .null, .int 0, .int 0, .int 0, .null, .null, .int 0, .null, .int 0, .null, .null, .int 0, .int 0, .int 0, .int 0, .int 0, .null, .int 0, .null, .null, .int 0])) :: W0) c0 s0 none (fun q => nc_X21_init E a W0 q) c s := by
  have hd1 : 1 ≤ d := by omega
  refine hn_enter (own := RX21) [(0, .ref a)] pl_X21 rfl rfl (Nat.le_of_ble_eq_true rfl) (fun X hC hmn => ?_)
  refine hn_aload_n hC dX21_init_0 rfl ?_
  refine hn_obj hC dX21_init_1 q2755 q357 q358 hd1 (by simp) ?_
  refine hn_aload_n hC dX21_init_4 rfl ?_
  refine hn_bipush (v := 15) hC dX21_init_5 rfl ?_
  refine hn_newS (c9 := (c + 42)) (s9 := (s + 730225)) hC 15 dX21_init_7 q2756 (by decide) rfl (by decide) (by omega) (by omega) (fun q1 => ?_)
  refine hn_dup hC dX21_init_10 rfl ?_
  refine hn_iconst (v := 0) hC dX21_init_11 rfl ?_
  refine hn_ldcs (v := 0) 39 hC dX21_init_12 (List.mem_of_getElem? (i := 39) rfl) ?_
  refine hn_astS (L := []) hC 0 [39] dX21_init_14 rfl rfl (inb_in rfl) (by decide) rfl ?_
  dsimp only [List.set_cons_zero, List.set_cons_succ]
  refine hn_dup hC dX21_init_15 rfl ?_
  refine hn_iconst (v := 1) hC dX21_init_16 rfl ?_
  refine hn_ldcs (v := 0) 40 hC dX21_init_17 (List.mem_of_getElem? (i := 40) rfl) ?_
  refine hn_astS (L := [39]) hC 0 [39, 40] dX21_init_19 rfl rfl (inb_in rfl) (by decide) rfl ?_
  dsimp only [List.set_cons_zero, List.set_cons_succ]
  refine hn_dup hC dX21_init_20 rfl ?_
  refine hn_iconst (v := 2) hC dX21_init_21 rfl ?_
  refine hn_ldcs (v := 0) 41 hC dX21_init_22 (List.mem_of_getElem? (i := 41) rfl) ?_
  refine hn_astS (L := [39, 40]) hC 0 [39, 40, 41] dX21_init_24 rfl rfl (inb_in rfl) (by decide) rfl ?_
  dsimp only [List.set_cons_zero, List.set_cons_succ]
  refine hn_dup hC dX21_init_25 rfl ?_
  refine hn_iconst (v := 3) hC dX21_init_26 rfl ?_
  refine hn_ldcs (v := 0) 42 hC dX21_init_27 (List.mem_of_getElem? (i := 42) rfl) ?_
  refine hn_astS (L := [39, 40, 41]) hC 0 [39, 40, 41, 42] dX21_init_29 rfl rfl (inb_in rfl) (by decide) rfl ?_
  dsimp only [List.set_cons_zero, List.set_cons_succ]
  refine hn_dup hC dX21_init_30 rfl ?_
  refine hn_iconst (v := 4) hC dX21_init_31 rfl ?_
  refine hn_ldcs (v := 0) 43 hC dX21_init_32 (List.mem_of_getElem? (i := 43) rfl) ?_
  refine hn_astS (L := [39, 40, 41, 42]) hC 0 [39, 40, 41, 42, 43] dX21_init_34 rfl rfl (inb_in rfl) (by decide) rfl ?_
  dsimp only [List.set_cons_zero, List.set_cons_succ]
  refine hn_dup hC dX21_init_35 rfl ?_
  refine hn_iconst (v := 5) hC dX21_init_36 rfl ?_
  refine hn_ldcs (v := 0) 44 hC dX21_init_37 (List.mem_of_getElem? (i := 44) rfl) ?_
  refine hn_astS (L := [39, 40, 41, 42, 43]) hC 0 [39, 40, 41, 42, 43, 44] dX21_init_39 rfl rfl (inb_in rfl) (by decide) rfl ?_
  dsimp only [List.set_cons_zero, List.set_cons_succ]
  refine hn_dup hC dX21_init_40 rfl ?_
  refine hn_bipush (v := 6) hC dX21_init_41 rfl ?_
  refine hn_ldcs (v := 0) 45 hC dX21_init_43 (List.mem_of_getElem? (i := 45) rfl) ?_
  refine hn_astS (L := [39, 40, 41, 42, 43, 44]) hC 0 [39, 40, 41, 42, 43, 44, 45] dX21_init_45 rfl rfl (inb_in rfl) (by decide) rfl ?_
  dsimp only [List.set_cons_zero, List.set_cons_succ]
  refine hn_dup hC dX21_init_46 rfl ?_
  refine hn_bipush (v := 7) hC dX21_init_47 rfl ?_
  refine hn_ldcs (v := 0) 46 hC dX21_init_49 (List.mem_of_getElem? (i := 46) rfl) ?_
  refine hn_astS (L := [39, 40, 41, 42, 43, 44, 45]) hC 0 [39, 40, 41, 42, 43, 44, 45, 46] dX21_init_51 rfl rfl (inb_in rfl) (by decide) rfl ?_
  dsimp only [List.set_cons_zero, List.set_cons_succ]
  refine hn_dup hC dX21_init_52 rfl ?_
  refine hn_bipush (v := 8) hC dX21_init_53 rfl ?_
  refine hn_ldcs (v := 0) 47 hC dX21_init_55 (List.mem_of_getElem? (i := 47) rfl) ?_
  refine hn_astS (L := [39, 40, 41, 42, 43, 44, 45, 46]) hC 0 [39, 40, 41, 42, 43, 44, 45, 46, 47] dX21_init_57 rfl rfl (inb_in rfl) (by decide) rfl ?_
  dsimp only [List.set_cons_zero, List.set_cons_succ]
  refine hn_dup hC dX21_init_58 rfl ?_
  refine hn_bipush (v := 9) hC dX21_init_59 rfl ?_
  refine hn_ldcs (v := 0) 48 hC dX21_init_61 (List.mem_of_getElem? (i := 48) rfl) ?_
  refine hn_astS (L := [39, 40, 41, 42, 43, 44, 45, 46, 47]) hC 0 [39, 40, 41, 42, 43, 44, 45, 46, 47, 48] dX21_init_63 rfl rfl (inb_in rfl) (by decide) rfl ?_
  dsimp only [List.set_cons_zero, List.set_cons_succ]
  refine hn_dup hC dX21_init_64 rfl ?_
  refine hn_bipush (v := 10) hC dX21_init_65 rfl ?_
  refine hn_ldcs (v := 0) 49 hC dX21_init_67 (List.mem_of_getElem? (i := 49) rfl) ?_
  refine hn_astS (L := [39, 40, 41, 42, 43, 44, 45, 46, 47, 48]) hC 0 [39, 40, 41, 42, 43, 44, 45, 46, 47, 48, 49] dX21_init_69 rfl rfl (inb_in rfl) (by decide) rfl ?_
  dsimp only [List.set_cons_zero, List.set_cons_succ]
  refine hn_dup hC dX21_init_70 rfl ?_
  refine hn_bipush (v := 11) hC dX21_init_71 rfl ?_
  refine hn_ldcs (v := 0) 50 hC dX21_init_73 (List.mem_of_getElem? (i := 50) rfl) ?_
  refine hn_astS (L := [39, 40, 41, 42, 43, 44, 45, 46, 47, 48, 49]) hC 0 [39, 40, 41, 42, 43, 44, 45, 46, 47, 48, 49, 50] dX21_init_75 rfl rfl (inb_in rfl) (by decide) rfl ?_
  dsimp only [List.set_cons_zero, List.set_cons_succ]
  refine hn_dup hC dX21_init_76 rfl ?_
  refine hn_bipush (v := 12) hC dX21_init_77 rfl ?_
  refine hn_ldcs (v := 0) 51 hC dX21_init_79 (List.mem_of_getElem? (i := 51) rfl) ?_
  refine hn_astS (L := [39, 40, 41, 42, 43, 44, 45, 46, 47, 48, 49, 50]) hC 0 [39, 40, 41, 42, 43, 44, 45, 46, 47, 48, 49, 50, 51] dX21_init_81 rfl rfl (inb_in rfl) (by decide) rfl ?_
  dsimp only [List.set_cons_zero, List.set_cons_succ]
  refine hn_dup hC dX21_init_82 rfl ?_
  refine hn_bipush (v := 13) hC dX21_init_83 rfl ?_
  refine hn_ldcs (v := 0) 52 hC dX21_init_85 (List.mem_of_getElem? (i := 52) rfl) ?_
  refine hn_astS (L := [39, 40, 41, 42, 43, 44, 45, 46, 47, 48, 49, 50, 51]) hC 0 [39, 40, 41, 42, 43, 44, 45, 46, 47, 48, 49, 50, 51, 52] dX21_init_87 rfl rfl (inb_in rfl) (by decide) rfl ?_
  dsimp only [List.set_cons_zero, List.set_cons_succ]
  refine hn_dup hC dX21_init_88 rfl ?_
  refine hn_bipush (v := 14) hC dX21_init_89 rfl ?_
  refine hn_ldcs (v := 0) 53 hC dX21_init_91 (List.mem_of_getElem? (i := 53) rfl) ?_
  refine hn_astS (L := [39, 40, 41, 42, 43, 44, 45, 46, 47, 48, 49, 50, 51, 52]) hC 0 [39, 40, 41, 42, 43, 44, 45, 46, 47, 48, 49, 50, 51, 52, 53] dX21_init_93 rfl rfl (inb_in rfl) (by decide) rfl ?_
  dsimp only [List.set_cons_zero, List.set_cons_succ]
  refine hn_putF (C := RX21) (T := TX21) (N := 87) hC hmn 1 0 tyX21 dX21_init_94 q2842 in_X21 tyX21_ok nmX21 rfl rfl rfl rfl (by decide) rfl rfl rfl (Nat.le_of_ble_eq_true rfl) ?_
  dsimp only [List.set_cons_zero, List.set_cons_succ]
  refine hn_aload_n hC dX21_init_97 rfl ?_
  refine hn_bipush (v := 43) hC dX21_init_98 rfl ?_
  refine hn_newS (c9 := (c + 41)) (s9 := (s + 730182)) hC 43 dX21_init_100 q2756 (by decide) rfl (by decide) (by omega) (by omega) (fun q2 => ?_)
  refine hn_dup hC dX21_init_103 rfl ?_
  refine hn_iconst (v := 0) hC dX21_init_104 rfl ?_
  refine hn_ldcs (v := 0) 54 hC dX21_init_105 (List.mem_of_getElem? (i := 54) rfl) ?_
  refine hn_astS (L := []) hC 0 [54] dX21_init_107 rfl rfl (inb_in rfl) (by decide) rfl ?_
  dsimp only [List.set_cons_zero, List.set_cons_succ]
  refine hn_dup hC dX21_init_108 rfl ?_
  refine hn_iconst (v := 1) hC dX21_init_109 rfl ?_
  refine hn_ldcs (v := 0) 55 hC dX21_init_110 (List.mem_of_getElem? (i := 55) rfl) ?_
  refine hn_astS (L := [54]) hC 0 [54, 55] dX21_init_112 rfl rfl (inb_in rfl) (by decide) rfl ?_
  dsimp only [List.set_cons_zero, List.set_cons_succ]
  refine hn_dup hC dX21_init_113 rfl ?_
  refine hn_iconst (v := 2) hC dX21_init_114 rfl ?_
  refine hn_ldcs (v := 0) 56 hC dX21_init_115 (List.mem_of_getElem? (i := 56) rfl) ?_
  refine hn_astS (L := [54, 55]) hC 0 [54, 55, 56] dX21_init_117 rfl rfl (inb_in rfl) (by decide) rfl ?_
  dsimp only [List.set_cons_zero, List.set_cons_succ]
  refine hn_dup hC dX21_init_118 rfl ?_
  refine hn_iconst (v := 3) hC dX21_init_119 rfl ?_
  refine hn_ldcs (v := 0) 57 hC dX21_init_120 (List.mem_of_getElem? (i := 57) rfl) ?_
  refine hn_astS (L := [54, 55, 56]) hC 0 [54, 55, 56, 57] dX21_init_122 rfl rfl (inb_in rfl) (by decide) rfl ?_
  dsimp only [List.set_cons_zero, List.set_cons_succ]
  refine hn_dup hC dX21_init_123 rfl ?_
  refine hn_iconst (v := 4) hC dX21_init_124 rfl ?_
  refine hn_ldcs (v := 0) 58 hC dX21_init_125 (List.mem_of_getElem? (i := 58) rfl) ?_
  refine hn_astS (L := [54, 55, 56, 57]) hC 0 [54, 55, 56, 57, 58] dX21_init_127 rfl rfl (inb_in rfl) (by decide) rfl ?_
  dsimp only [List.set_cons_zero, List.set_cons_succ]
  refine hn_dup hC dX21_init_128 rfl ?_
  refine hn_iconst (v := 5) hC dX21_init_129 rfl ?_
  refine hn_ldcs (v := 0) 59 hC dX21_init_130 (List.mem_of_getElem? (i := 59) rfl) ?_
  refine hn_astS (L := [54, 55, 56, 57, 58]) hC 0 [54, 55, 56, 57, 58, 59] dX21_init_132 rfl rfl (inb_in rfl) (by decide) rfl ?_
  dsimp only [List.set_cons_zero, List.set_cons_succ]
  refine hn_dup hC dX21_init_133 rfl ?_
  refine hn_bipush (v := 6) hC dX21_init_134 rfl ?_
  refine hn_ldcs (v := 0) 60 hC dX21_init_136 (List.mem_of_getElem? (i := 60) rfl) ?_
  refine hn_astS (L := [54, 55, 56, 57, 58, 59]) hC 0 [54, 55, 56, 57, 58, 59, 60] dX21_init_138 rfl rfl (inb_in rfl) (by decide) rfl ?_
  dsimp only [List.set_cons_zero, List.set_cons_succ]
  refine hn_dup hC dX21_init_139 rfl ?_
  refine hn_bipush (v := 7) hC dX21_init_140 rfl ?_
  refine hn_ldcs (v := 0) 61 hC dX21_init_142 (List.mem_of_getElem? (i := 61) rfl) ?_
  refine hn_astS (L := [54, 55, 56, 57, 58, 59, 60]) hC 0 [54, 55, 56, 57, 58, 59, 60, 61] dX21_init_144 rfl rfl (inb_in rfl) (by decide) rfl ?_
  dsimp only [List.set_cons_zero, List.set_cons_succ]
  refine hn_dup hC dX21_init_145 rfl ?_
  refine hn_bipush (v := 8) hC dX21_init_146 rfl ?_
  refine hn_ldcs (v := 0) 62 hC dX21_init_148 (List.mem_of_getElem? (i := 62) rfl) ?_
  refine hn_astS (L := [54, 55, 56, 57, 58, 59, 60, 61]) hC 0 [54, 55, 56, 57, 58, 59, 60, 61, 62] dX21_init_150 rfl rfl (inb_in rfl) (by decide) rfl ?_
  dsimp only [List.set_cons_zero, List.set_cons_succ]
  refine hn_dup hC dX21_init_151 rfl ?_
  refine hn_bipush (v := 9) hC dX21_init_152 rfl ?_
  refine hn_ldcs (v := 0) 63 hC dX21_init_154 (List.mem_of_getElem? (i := 63) rfl) ?_
  refine hn_astS (L := [54, 55, 56, 57, 58, 59, 60, 61, 62]) hC 0 [54, 55, 56, 57, 58, 59, 60, 61, 62, 63] dX21_init_156 rfl rfl (inb_in rfl) (by decide) rfl ?_
  dsimp only [List.set_cons_zero, List.set_cons_succ]
  refine hn_dup hC dX21_init_157 rfl ?_
  refine hn_bipush (v := 10) hC dX21_init_158 rfl ?_
  refine hn_ldcs (v := 0) 64 hC dX21_init_160 (List.mem_of_getElem? (i := 64) rfl) ?_
  refine hn_astS (L := [54, 55, 56, 57, 58, 59, 60, 61, 62, 63]) hC 0 [54, 55, 56, 57, 58, 59, 60, 61, 62, 63, 64] dX21_init_162 rfl rfl (inb_in rfl) (by decide) rfl ?_
  dsimp only [List.set_cons_zero, List.set_cons_succ]
  refine hn_dup hC dX21_init_163 rfl ?_
  refine hn_bipush (v := 11) hC dX21_init_164 rfl ?_
  refine hn_ldcs (v := 0) 65 hC dX21_init_166 (List.mem_of_getElem? (i := 65) rfl) ?_
  refine hn_astS (L := [54, 55, 56, 57, 58, 59, 60, 61, 62, 63, 64]) hC 0 [54, 55, 56, 57, 58, 59, 60, 61, 62, 63, 64, 65] dX21_init_168 rfl rfl (inb_in rfl) (by decide) rfl ?_
  dsimp only [List.set_cons_zero, List.set_cons_succ]
  refine hn_dup hC dX21_init_169 rfl ?_
  refine hn_bipush (v := 12) hC dX21_init_170 rfl ?_
  refine hn_ldcs (v := 0) 66 hC dX21_init_172 (List.mem_of_getElem? (i := 66) rfl) ?_
  refine hn_astS (L := [54, 55, 56, 57, 58, 59, 60, 61, 62, 63, 64, 65]) hC 0 [54, 55, 56, 57, 58, 59, 60, 61, 62, 63, 64, 65, 66] dX21_init_174 rfl rfl (inb_in rfl) (by decide) rfl ?_
  dsimp only [List.set_cons_zero, List.set_cons_succ]
  refine hn_dup hC dX21_init_175 rfl ?_
  refine hn_bipush (v := 13) hC dX21_init_176 rfl ?_
  refine hn_ldcs (v := 0) 67 hC dX21_init_178 (List.mem_of_getElem? (i := 67) rfl) ?_
  refine hn_astS (L := [54, 55, 56, 57, 58, 59, 60, 61, 62, 63, 64, 65, 66]) hC 0 [54, 55, 56, 57, 58, 59, 60, 61, 62, 63, 64, 65, 66, 67] dX21_init_180 rfl rfl (inb_in rfl) (by decide) rfl ?_
  dsimp only [List.set_cons_zero, List.set_cons_succ]
  refine hn_dup hC dX21_init_181 rfl ?_
  refine hn_bipush (v := 14) hC dX21_init_182 rfl ?_
  refine hn_ldcs (v := 0) 68 hC dX21_init_184 (List.mem_of_getElem? (i := 68) rfl) ?_
  refine hn_astS (L := [54, 55, 56, 57, 58, 59, 60, 61, 62, 63, 64, 65, 66, 67]) hC 0 [54, 55, 56, 57, 58, 59, 60, 61, 62, 63, 64, 65, 66, 67, 68] dX21_init_186 rfl rfl (inb_in rfl) (by decide) rfl ?_
  dsimp only [List.set_cons_zero, List.set_cons_succ]
  refine hn_dup hC dX21_init_187 rfl ?_
  refine hn_bipush (v := 15) hC dX21_init_188 rfl ?_
  refine hn_ldcs (v := 0) 69 hC dX21_init_190 (List.mem_of_getElem? (i := 69) rfl) ?_
  refine hn_astS (L := [54, 55, 56, 57, 58, 59, 60, 61, 62, 63, 64, 65, 66, 67, 68]) hC 0 [54, 55, 56, 57, 58, 59, 60, 61, 62, 63, 64, 65, 66, 67, 68, 69] dX21_init_192 rfl rfl (inb_in rfl) (by decide) rfl ?_
  dsimp only [List.set_cons_zero, List.set_cons_succ]
  refine hn_dup hC dX21_init_193 rfl ?_
  refine hn_bipush (v := 16) hC dX21_init_194 rfl ?_
  refine hn_ldcs (v := 0) 70 hC dX21_init_196 (List.mem_of_getElem? (i := 70) rfl) ?_
  refine hn_astS (L := [54, 55, 56, 57, 58, 59, 60, 61, 62, 63, 64, 65, 66, 67, 68, 69]) hC 0 [54, 55, 56, 57, 58, 59, 60, 61, 62, 63, 64, 65, 66, 67, 68, 69, 70] dX21_init_198 rfl rfl (inb_in rfl) (by decide) rfl ?_
  dsimp only [List.set_cons_zero, List.set_cons_succ]
  refine hn_dup hC dX21_init_199 rfl ?_
  refine hn_bipush (v := 17) hC dX21_init_200 rfl ?_
  refine hn_ldcs (v := 0) 71 hC dX21_init_202 (List.mem_of_getElem? (i := 71) rfl) ?_
  refine hn_astS (L := [54, 55, 56, 57, 58, 59, 60, 61, 62, 63, 64, 65, 66, 67, 68, 69, 70]) hC 0 [54, 55, 56, 57, 58, 59, 60, 61, 62, 63, 64, 65, 66, 67, 68, 69, 70, 71] dX21_init_204 rfl rfl (inb_in rfl) (by decide) rfl ?_
  dsimp only [List.set_cons_zero, List.set_cons_succ]
  refine hn_dup hC dX21_init_205 rfl ?_
  refine hn_bipush (v := 18) hC dX21_init_206 rfl ?_
  refine hn_ldcs (v := 0) 72 hC dX21_init_208 (List.mem_of_getElem? (i := 72) rfl) ?_
  refine hn_astS (L := [54, 55, 56, 57, 58, 59, 60, 61, 62, 63, 64, 65, 66, 67, 68, 69, 70, 71]) hC 0 [54, 55, 56, 57, 58, 59, 60, 61, 62, 63, 64, 65, 66, 67, 68, 69, 70, 71, 72] dX21_init_210 rfl rfl (inb_in rfl) (by decide) rfl ?_
  dsimp only [List.set_cons_zero, List.set_cons_succ]
  refine hn_dup hC dX21_init_211 rfl ?_
  refine hn_bipush (v := 19) hC dX21_init_212 rfl ?_
  refine hn_ldcs (v := 0) 73 hC dX21_init_214 (List.mem_of_getElem? (i := 73) rfl) ?_
  refine hn_astS (L := [54, 55, 56, 57, 58, 59, 60, 61, 62, 63, 64, 65, 66, 67, 68, 69, 70, 71, 72]) hC 0 [54, 55, 56, 57, 58, 59, 60, 61, 62, 63, 64, 65, 66, 67, 68, 69, 70, 71, 72, 73] dX21_init_216 rfl rfl (inb_in rfl) (by decide) rfl ?_
  dsimp only [List.set_cons_zero, List.set_cons_succ]
  refine hn_dup hC dX21_init_217 rfl ?_
  refine hn_bipush (v := 20) hC dX21_init_218 rfl ?_
  refine hn_ldcs (v := 0) 74 hC dX21_init_220 (List.mem_of_getElem? (i := 74) rfl) ?_
  refine hn_astS (L := [54, 55, 56, 57, 58, 59, 60, 61, 62, 63, 64, 65, 66, 67, 68, 69, 70, 71, 72, 73]) hC 0 [54, 55, 56, 57, 58, 59, 60, 61, 62, 63, 64, 65, 66, 67, 68, 69, 70, 71, 72, 73, 74] dX21_init_222 rfl rfl (inb_in rfl) (by decide) rfl ?_
  dsimp only [List.set_cons_zero, List.set_cons_succ]
  refine hn_dup hC dX21_init_223 rfl ?_
  refine hn_bipush (v := 21) hC dX21_init_224 rfl ?_
  refine hn_ldcs (v := 0) 75 hC dX21_init_226 (List.mem_of_getElem? (i := 75) rfl) ?_
  refine hn_astS (L := [54, 55, 56, 57, 58, 59, 60, 61, 62, 63, 64, 65, 66, 67, 68, 69, 70, 71, 72, 73, 74]) hC 0 [54, 55, 56, 57, 58, 59, 60, 61, 62, 63, 64, 65, 66, 67, 68, 69, 70, 71, 72, 73, 74, 75] dX21_init_228 rfl rfl (inb_in rfl) (by decide) rfl ?_
  dsimp only [List.set_cons_zero, List.set_cons_succ]
  refine hn_dup hC dX21_init_229 rfl ?_
  refine hn_bipush (v := 22) hC dX21_init_230 rfl ?_
  refine hn_ldcs (v := 0) 76 hC dX21_init_232 (List.mem_of_getElem? (i := 76) rfl) ?_
  refine hn_astS (L := [54, 55, 56, 57, 58, 59, 60, 61, 62, 63, 64, 65, 66, 67, 68, 69, 70, 71, 72, 73, 74, 75]) hC 0 [54, 55, 56, 57, 58, 59, 60, 61, 62, 63, 64, 65, 66, 67, 68, 69, 70, 71, 72, 73, 74, 75, 76] dX21_init_234 rfl rfl (inb_in rfl) (by decide) rfl ?_
  dsimp only [List.set_cons_zero, List.set_cons_succ]
  refine hn_dup hC dX21_init_235 rfl ?_
  refine hn_bipush (v := 23) hC dX21_init_236 rfl ?_
  refine hn_ldcs (v := 0) 77 hC dX21_init_238 (List.mem_of_getElem? (i := 77) rfl) ?_
  refine hn_astS (L := [54, 55, 56, 57, 58, 59, 60, 61, 62, 63, 64, 65, 66, 67, 68, 69, 70, 71, 72, 73, 74, 75, 76]) hC 0 [54, 55, 56, 57, 58, 59, 60, 61, 62, 63, 64, 65, 66, 67, 68, 69, 70, 71, 72, 73, 74, 75, 76, 77] dX21_init_240 rfl rfl (inb_in rfl) (by decide) rfl ?_
  dsimp only [List.set_cons_zero, List.set_cons_succ]
  refine hn_dup hC dX21_init_241 rfl ?_
  refine hn_bipush (v := 24) hC dX21_init_242 rfl ?_
  refine hn_ldcs (v := 0) 78 hC dX21_init_244 (List.mem_of_getElem? (i := 78) rfl) ?_
  refine hn_astS (L := [54, 55, 56, 57, 58, 59, 60, 61, 62, 63, 64, 65, 66, 67, 68, 69, 70, 71, 72, 73, 74, 75, 76, 77]) hC 0 [54, 55, 56, 57, 58, 59, 60, 61, 62, 63, 64, 65, 66, 67, 68, 69, 70, 71, 72, 73, 74, 75, 76, 77, 78] dX21_init_246 rfl rfl (inb_in rfl) (by decide) rfl ?_
  dsimp only [List.set_cons_zero, List.set_cons_succ]
  refine hn_dup hC dX21_init_247 rfl ?_
  refine hn_bipush (v := 25) hC dX21_init_248 rfl ?_
  refine hn_ldcs (v := 0) 79 hC dX21_init_250 (List.mem_of_getElem? (i := 79) rfl) ?_
  refine hn_astS (L := [54, 55, 56, 57, 58, 59, 60, 61, 62, 63, 64, 65, 66, 67, 68, 69, 70, 71, 72, 73, 74, 75, 76, 77, 78]) hC 0 [54, 55, 56, 57, 58, 59, 60, 61, 62, 63, 64, 65, 66, 67, 68, 69, 70, 71, 72, 73, 74, 75, 76, 77, 78, 79] dX21_init_252 rfl rfl (inb_in rfl) (by decide) rfl ?_
  dsimp only [List.set_cons_zero, List.set_cons_succ]
  refine hn_dup hC dX21_init_253 rfl ?_
  refine hn_bipush (v := 26) hC dX21_init_254 rfl ?_
  refine hn_ldcs (v := 0) 80 hC dX21_init_256 (List.mem_of_getElem? (i := 80) rfl) ?_
  refine hn_astS (L := [54, 55, 56, 57, 58, 59, 60, 61, 62, 63, 64, 65, 66, 67, 68, 69, 70, 71, 72, 73, 74, 75, 76, 77, 78, 79]) hC 0 [54, 55, 56, 57, 58, 59, 60, 61, 62, 63, 64, 65, 66, 67, 68, 69, 70, 71, 72, 73, 74, 75, 76, 77, 78, 79, 80] dX21_init_258 rfl rfl (inb_in rfl) (by decide) rfl ?_
  dsimp only [List.set_cons_zero, List.set_cons_succ]
  refine hn_dup hC dX21_init_259 rfl ?_
  refine hn_bipush (v := 27) hC dX21_init_260 rfl ?_
  refine hn_ldcs (v := 0) 81 hC dX21_init_262 (List.mem_of_getElem? (i := 81) rfl) ?_
  refine hn_astS (L := [54, 55, 56, 57, 58, 59, 60, 61, 62, 63, 64, 65, 66, 67, 68, 69, 70, 71, 72, 73, 74, 75, 76, 77, 78, 79, 80]) hC 0 [54, 55, 56, 57, 58, 59, 60, 61, 62, 63, 64, 65, 66, 67, 68, 69, 70, 71, 72, 73, 74, 75, 76, 77, 78, 79, 80, 81] dX21_init_264 rfl rfl (inb_in rfl) (by decide) rfl ?_
  dsimp only [List.set_cons_zero, List.set_cons_succ]
  refine hn_dup hC dX21_init_265 rfl ?_
  refine hn_bipush (v := 28) hC dX21_init_266 rfl ?_
  refine hn_ldcs (v := 0) 82 hC dX21_init_268 (List.mem_of_getElem? (i := 82) rfl) ?_
  refine hn_astS (L := [54, 55, 56, 57, 58, 59, 60, 61, 62, 63, 64, 65, 66, 67, 68, 69, 70, 71, 72, 73, 74, 75, 76, 77, 78, 79, 80, 81]) hC 0 [54, 55, 56, 57, 58, 59, 60, 61, 62, 63, 64, 65, 66, 67, 68, 69, 70, 71, 72, 73, 74, 75, 76, 77, 78, 79, 80, 81, 82] dX21_init_270 rfl rfl (inb_in rfl) (by decide) rfl ?_
  dsimp only [List.set_cons_zero, List.set_cons_succ]
  refine hn_dup hC dX21_init_271 rfl ?_
  refine hn_bipush (v := 29) hC dX21_init_272 rfl ?_
  refine hn_ldcs (v := 0) 83 hC dX21_init_274 (List.mem_of_getElem? (i := 83) rfl) ?_
  refine hn_astS (L := [54, 55, 56, 57, 58, 59, 60, 61, 62, 63, 64, 65, 66, 67, 68, 69, 70, 71, 72, 73, 74, 75, 76, 77, 78, 79, 80, 81, 82]) hC 0 [54, 55, 56, 57, 58, 59, 60, 61, 62, 63, 64, 65, 66, 67, 68, 69, 70, 71, 72, 73, 74, 75, 76, 77, 78, 79, 80, 81, 82, 83] dX21_init_276 rfl rfl (inb_in rfl) (by decide) rfl ?_
  dsimp only [List.set_cons_zero, List.set_cons_succ]
  refine hn_dup hC dX21_init_277 rfl ?_
  refine hn_bipush (v := 30) hC dX21_init_278 rfl ?_
  refine hn_ldcs (v := 0) 84 hC dX21_init_280 (List.mem_of_getElem? (i := 84) rfl) ?_
  refine hn_astS (L := [54, 55, 56, 57, 58, 59, 60, 61, 62, 63, 64, 65, 66, 67, 68, 69, 70, 71, 72, 73, 74, 75, 76, 77, 78, 79, 80, 81, 82, 83]) hC 0 [54, 55, 56, 57, 58, 59, 60, 61, 62, 63, 64, 65, 66, 67, 68, 69, 70, 71, 72, 73, 74, 75, 76, 77, 78, 79, 80, 81, 82, 83, 84] dX21_init_282 rfl rfl (inb_in rfl) (by decide) rfl ?_
  dsimp only [List.set_cons_zero, List.set_cons_succ]
  refine hn_dup hC dX21_init_283 rfl ?_
  refine hn_bipush (v := 31) hC dX21_init_284 rfl ?_
  refine hn_ldcs (v := 0) 85 hC dX21_init_286 (List.mem_of_getElem? (i := 85) rfl) ?_
  refine hn_astS (L := [54, 55, 56, 57, 58, 59, 60, 61, 62, 63, 64, 65, 66, 67, 68, 69, 70, 71, 72, 73, 74, 75, 76, 77, 78, 79, 80, 81, 82, 83, 84]) hC 0 [54, 55, 56, 57, 58, 59, 60, 61, 62, 63, 64, 65, 66, 67, 68, 69, 70, 71, 72, 73, 74, 75, 76, 77, 78, 79, 80, 81, 82, 83, 84, 85] dX21_init_288 rfl rfl (inb_in rfl) (by decide) rfl ?_
  dsimp only [List.set_cons_zero, List.set_cons_succ]
  refine hn_dup hC dX21_init_289 rfl ?_
  refine hn_bipush (v := 32) hC dX21_init_290 rfl ?_
  refine hn_ldcs (v := 0) 86 hC dX21_init_292 (List.mem_of_getElem? (i := 86) rfl) ?_
  refine hn_astS (L := [54, 55, 56, 57, 58, 59, 60, 61, 62, 63, 64, 65, 66, 67, 68, 69, 70, 71, 72, 73, 74, 75, 76, 77, 78, 79, 80, 81, 82, 83, 84, 85]) hC 0 [54, 55, 56, 57, 58, 59, 60, 61, 62, 63, 64, 65, 66, 67, 68, 69, 70, 71, 72, 73, 74, 75, 76, 77, 78, 79, 80, 81, 82, 83, 84, 85, 86] dX21_init_294 rfl rfl (inb_in rfl) (by decide) rfl ?_
  dsimp only [List.set_cons_zero, List.set_cons_succ]
  refine hn_dup hC dX21_init_295 rfl ?_
  refine hn_bipush (v := 33) hC dX21_init_296 rfl ?_
  refine hn_ldcs (v := 0) 87 hC dX21_init_298 (List.mem_of_getElem? (i := 87) rfl) ?_
  refine hn_astS (L := [54, 55, 56, 57, 58, 59, 60, 61, 62, 63, 64, 65, 66, 67, 68, 69, 70, 71, 72, 73, 74, 75, 76, 77, 78, 79, 80, 81, 82, 83, 84, 85, 86]) hC 0 [54, 55, 56, 57, 58, 59, 60, 61, 62, 63, 64, 65, 66, 67, 68, 69, 70, 71, 72, 73, 74, 75, 76, 77, 78, 79, 80, 81, 82, 83, 84, 85, 86, 87] dX21_init_300 rfl rfl (inb_in rfl) (by decide) rfl ?_
  dsimp only [List.set_cons_zero, List.set_cons_succ]
  refine hn_dup hC dX21_init_301 rfl ?_
  refine hn_bipush (v := 34) hC dX21_init_302 rfl ?_
  refine hn_ldcs (v := 0) 88 hC dX21_init_304 (List.mem_of_getElem? (i := 88) rfl) ?_
  refine hn_astS (L := [54, 55, 56, 57, 58, 59, 60, 61, 62, 63, 64, 65, 66, 67, 68, 69, 70, 71, 72, 73, 74, 75, 76, 77, 78, 79, 80, 81, 82, 83, 84, 85, 86, 87]) hC 0 [54, 55, 56, 57, 58, 59, 60, 61, 62, 63, 64, 65, 66, 67, 68, 69, 70, 71, 72, 73, 74, 75, 76, 77, 78, 79, 80, 81, 82, 83, 84, 85, 86, 87, 88] dX21_init_306 rfl rfl (inb_in rfl) (by decide) rfl ?_
  dsimp only [List.set_cons_zero, List.set_cons_succ]
  refine hn_dup hC dX21_init_307 rfl ?_
  refine hn_bipush (v := 35) hC dX21_init_308 rfl ?_
  refine hn_ldcs (v := 0) 89 hC dX21_init_310 (List.mem_of_getElem? (i := 89) rfl) ?_
  refine hn_astS (L := [54, 55, 56, 57, 58, 59, 60, 61, 62, 63, 64, 65, 66, 67, 68, 69, 70, 71, 72, 73, 74, 75, 76, 77, 78, 79, 80, 81, 82, 83, 84, 85, 86, 87, 88]) hC 0 [54, 55, 56, 57, 58, 59, 60, 61, 62, 63, 64, 65, 66, 67, 68, 69, 70, 71, 72, 73, 74, 75, 76, 77, 78, 79, 80, 81, 82, 83, 84, 85, 86, 87, 88, 89] dX21_init_312 rfl rfl (inb_in rfl) (by decide) rfl ?_
  dsimp only [List.set_cons_zero, List.set_cons_succ]
  refine hn_dup hC dX21_init_313 rfl ?_
  refine hn_bipush (v := 36) hC dX21_init_314 rfl ?_
  refine hn_ldcs (v := 0) 90 hC dX21_init_316 (List.mem_of_getElem? (i := 90) rfl) ?_
  refine hn_astS (L := [54, 55, 56, 57, 58, 59, 60, 61, 62, 63, 64, 65, 66, 67, 68, 69, 70, 71, 72, 73, 74, 75, 76, 77, 78, 79, 80, 81, 82, 83, 84, 85, 86, 87, 88, 89]) hC 0 [54, 55, 56, 57, 58, 59, 60, 61, 62, 63, 64, 65, 66, 67, 68, 69, 70, 71, 72, 73, 74, 75, 76, 77, 78, 79, 80, 81, 82, 83, 84, 85, 86, 87, 88, 89, 90] dX21_init_318 rfl rfl (inb_in rfl) (by decide) rfl ?_
  dsimp only [List.set_cons_zero, List.set_cons_succ]
  refine hn_dup hC dX21_init_319 rfl ?_
  refine hn_bipush (v := 37) hC dX21_init_320 rfl ?_
  refine hn_ldcs (v := 0) 91 hC dX21_init_322 (List.mem_of_getElem? (i := 91) rfl) ?_
  refine hn_astS (L := [54, 55, 56, 57, 58, 59, 60, 61, 62, 63, 64, 65, 66, 67, 68, 69, 70, 71, 72, 73, 74, 75, 76, 77, 78, 79, 80, 81, 82, 83, 84, 85, 86, 87, 88, 89, 90]) hC 0 [54, 55, 56, 57, 58, 59, 60, 61, 62, 63, 64, 65, 66, 67, 68, 69, 70, 71, 72, 73, 74, 75, 76, 77, 78, 79, 80, 81, 82, 83, 84, 85, 86, 87, 88, 89, 90, 91] dX21_init_324 rfl rfl (inb_in rfl) (by decide) rfl ?_
  dsimp only [List.set_cons_zero, List.set_cons_succ]
  refine hn_dup hC dX21_init_325 rfl ?_
  refine hn_bipush (v := 38) hC dX21_init_326 rfl ?_
  refine hn_ldcs (v := 0) 92 hC dX21_init_328 (List.mem_of_getElem? (i := 92) rfl) ?_
  refine hn_astS (L := [54, 55, 56, 57, 58, 59, 60, 61, 62, 63, 64, 65, 66, 67, 68, 69, 70, 71, 72, 73, 74, 75, 76, 77, 78, 79, 80, 81, 82, 83, 84, 85, 86, 87, 88, 89, 90, 91]) hC 0 [54, 55, 56, 57, 58, 59, 60, 61, 62, 63, 64, 65, 66, 67, 68, 69, 70, 71, 72, 73, 74, 75, 76, 77, 78, 79, 80, 81, 82, 83, 84, 85, 86, 87, 88, 89, 90, 91, 92] dX21_init_330 rfl rfl (inb_in rfl) (by decide) rfl ?_
  dsimp only [List.set_cons_zero, List.set_cons_succ]
  refine hn_dup hC dX21_init_331 rfl ?_
  refine hn_bipush (v := 39) hC dX21_init_332 rfl ?_
  refine hn_ldcs (v := 0) 93 hC dX21_init_334 (List.mem_of_getElem? (i := 93) rfl) ?_
  refine hn_astS (L := [54, 55, 56, 57, 58, 59, 60, 61, 62, 63, 64, 65, 66, 67, 68, 69, 70, 71, 72, 73, 74, 75, 76, 77, 78, 79, 80, 81, 82, 83, 84, 85, 86, 87, 88, 89, 90, 91, 92]) hC 0 [54, 55, 56, 57, 58, 59, 60, 61, 62, 63, 64, 65, 66, 67, 68, 69, 70, 71, 72, 73, 74, 75, 76, 77, 78, 79, 80, 81, 82, 83, 84, 85, 86, 87, 88, 89, 90, 91, 92, 93] dX21_init_336 rfl rfl (inb_in rfl) (by decide) rfl ?_
  dsimp only [List.set_cons_zero, List.set_cons_succ]
  refine hn_dup hC dX21_init_337 rfl ?_
  refine hn_bipush (v := 40) hC dX21_init_338 rfl ?_
  refine hn_ldcs (v := 0) 94 hC dX21_init_340 (List.mem_of_getElem? (i := 94) rfl) ?_
  refine hn_astS (L := [54, 55, 56, 57, 58, 59, 60, 61, 62, 63, 64, 65, 66, 67, 68, 69, 70, 71, 72, 73, 74, 75, 76, 77, 78, 79, 80, 81, 82, 83, 84, 85, 86, 87, 88, 89, 90, 91, 92, 93]) hC 0 [54, 55, 56, 57, 58, 59, 60, 61, 62, 63, 64, 65, 66, 67, 68, 69, 70, 71, 72, 73, 74, 75, 76, 77, 78, 79, 80, 81, 82, 83, 84, 85, 86, 87, 88, 89, 90, 91, 92, 93, 94] dX21_init_342 rfl rfl (inb_in rfl) (by decide) rfl ?_
  dsimp only [List.set_cons_zero, List.set_cons_succ]
  refine hn_dup hC dX21_init_343 rfl ?_
  refine hn_bipush (v := 41) hC dX21_init_344 rfl ?_
  refine hn_ldcs (v := 0) 95 hC dX21_init_346 (List.mem_of_getElem? (i := 95) rfl) ?_
  refine hn_astS (L := [54, 55, 56, 57, 58, 59, 60, 61, 62, 63, 64, 65, 66, 67, 68, 69, 70, 71, 72, 73, 74, 75, 76, 77, 78, 79, 80, 81, 82, 83, 84, 85, 86, 87, 88, 89, 90, 91, 92, 93, 94]) hC 0 [54, 55, 56, 57, 58, 59, 60, 61, 62, 63, 64, 65, 66, 67, 68, 69, 70, 71, 72, 73, 74, 75, 76, 77, 78, 79, 80, 81, 82, 83, 84, 85, 86, 87, 88, 89, 90, 91, 92, 93, 94, 95] dX21_init_348 rfl rfl (inb_in rfl) (by decide) rfl ?_
  dsimp only [List.set_cons_zero, List.set_cons_succ]
  refine hn_dup hC dX21_init_349 rfl ?_
  refine hn_bipush (v := 42) hC dX21_init_350 rfl ?_
  refine hn_ldcs (v := 0) 96 hC dX21_init_352 (List.mem_of_getElem? (i := 96) rfl) ?_
  refine hn_astS (L := [54, 55, 56, 57, 58, 59, 60, 61, 62, 63, 64, 65, 66, 67, 68, 69, 70, 71, 72, 73, 74, 75, 76, 77, 78, 79, 80, 81, 82, 83, 84, 85, 86, 87, 88, 89, 90, 91, 92, 93, 94, 95]) hC 0 [54, 55, 56, 57, 58, 59, 60, 61, 62, 63, 64, 65, 66, 67, 68, 69, 70, 71, 72, 73, 74, 75, 76, 77, 78, 79, 80, 81, 82, 83, 84, 85, 86, 87, 88, 89, 90, 91, 92, 93, 94, 95, 96] dX21_init_354 rfl rfl (inb_in rfl) (by decide) rfl ?_
  dsimp only [List.set_cons_zero, List.set_cons_succ]
  refine hn_putF (C := RX21) (T := TX21) (N := 87) hC hmn 2 1 tyX21 dX21_init_355 q2843 in_X21 tyX21_ok nmX21 rfl rfl rfl rfl (by decide) rfl rfl rfl (Nat.le_of_ble_eq_true rfl) ?_
  dsimp only [List.set_cons_zero, List.set_cons_succ]
  refine hn_aload_n hC dX21_init_358 rfl ?_
  refine hn_bipush (v := 15) hC dX21_init_359 rfl ?_
  refine hn_newS (c9 := (c + 40)) (s9 := (s + 730167)) hC 15 dX21_init_361 q2756 (by decide) rfl (by decide) (by omega) (by omega) (fun q3 => ?_)
  refine hn_dup hC dX21_init_364 rfl ?_
  refine hn_iconst (v := 0) hC dX21_init_365 rfl ?_
  refine hn_ldcs (v := 0) 97 hC dX21_init_366 (List.mem_of_getElem? (i := 97) rfl) ?_
  refine hn_astS (L := []) hC 0 [97] dX21_init_368 rfl rfl (inb_in rfl) (by decide) rfl ?_
  dsimp only [List.set_cons_zero, List.set_cons_succ]
  refine hn_dup hC dX21_init_369 rfl ?_
  refine hn_iconst (v := 1) hC dX21_init_370 rfl ?_
  refine hn_ldcs (v := 0) 98 hC dX21_init_371 (List.mem_of_getElem? (i := 98) rfl) ?_
  refine hn_astS (L := [97]) hC 0 [97, 98] dX21_init_373 rfl rfl (inb_in rfl) (by decide) rfl ?_
  dsimp only [List.set_cons_zero, List.set_cons_succ]
  refine hn_dup hC dX21_init_374 rfl ?_
  refine hn_iconst (v := 2) hC dX21_init_375 rfl ?_
  refine hn_ldcs (v := 0) 99 hC dX21_init_376 (List.mem_of_getElem? (i := 99) rfl) ?_
  refine hn_astS (L := [97, 98]) hC 0 [97, 98, 99] dX21_init_378 rfl rfl (inb_in rfl) (by decide) rfl ?_
  dsimp only [List.set_cons_zero, List.set_cons_succ]
  refine hn_dup hC dX21_init_379 rfl ?_
  refine hn_iconst (v := 3) hC dX21_init_380 rfl ?_
  refine hn_ldcs (v := 0) 100 hC dX21_init_381 (List.mem_of_getElem? (i := 100) rfl) ?_
  refine hn_astS (L := [97, 98, 99]) hC 0 [97, 98, 99, 100] dX21_init_383 rfl rfl (inb_in rfl) (by decide) rfl ?_
  dsimp only [List.set_cons_zero, List.set_cons_succ]
  refine hn_dup hC dX21_init_384 rfl ?_
  refine hn_iconst (v := 4) hC dX21_init_385 rfl ?_
  refine hn_ldcs (v := 0) 101 hC dX21_init_386 (List.mem_of_getElem? (i := 101) rfl) ?_
  refine hn_astS (L := [97, 98, 99, 100]) hC 0 [97, 98, 99, 100, 101] dX21_init_388 rfl rfl (inb_in rfl) (by decide) rfl ?_
  dsimp only [List.set_cons_zero, List.set_cons_succ]
  refine hn_dup hC dX21_init_389 rfl ?_
  refine hn_iconst (v := 5) hC dX21_init_390 rfl ?_
  refine hn_ldcs (v := 0) 102 hC dX21_init_391 (List.mem_of_getElem? (i := 102) rfl) ?_
  refine hn_astS (L := [97, 98, 99, 100, 101]) hC 0 [97, 98, 99, 100, 101, 102] dX21_init_393 rfl rfl (inb_in rfl) (by decide) rfl ?_
  dsimp only [List.set_cons_zero, List.set_cons_succ]
  refine hn_dup hC dX21_init_394 rfl ?_
  refine hn_bipush (v := 6) hC dX21_init_395 rfl ?_
  refine hn_ldcs (v := 0) 103 hC dX21_init_397 (List.mem_of_getElem? (i := 103) rfl) ?_
  refine hn_astS (L := [97, 98, 99, 100, 101, 102]) hC 0 [97, 98, 99, 100, 101, 102, 103] dX21_init_399 rfl rfl (inb_in rfl) (by decide) rfl ?_
  dsimp only [List.set_cons_zero, List.set_cons_succ]
  refine hn_dup hC dX21_init_400 rfl ?_
  refine hn_bipush (v := 7) hC dX21_init_401 rfl ?_
  refine hn_ldcs (v := 0) 104 hC dX21_init_403 (List.mem_of_getElem? (i := 104) rfl) ?_
  refine hn_astS (L := [97, 98, 99, 100, 101, 102, 103]) hC 0 [97, 98, 99, 100, 101, 102, 103, 104] dX21_init_405 rfl rfl (inb_in rfl) (by decide) rfl ?_
  dsimp only [List.set_cons_zero, List.set_cons_succ]
  refine hn_dup hC dX21_init_406 rfl ?_
  refine hn_bipush (v := 8) hC dX21_init_407 rfl ?_
  refine hn_ldcs (v := 0) 105 hC dX21_init_409 (List.mem_of_getElem? (i := 105) rfl) ?_
  refine hn_astS (L := [97, 98, 99, 100, 101, 102, 103, 104]) hC 0 [97, 98, 99, 100, 101, 102, 103, 104, 105] dX21_init_411 rfl rfl (inb_in rfl) (by decide) rfl ?_
  dsimp only [List.set_cons_zero, List.set_cons_succ]
  refine hn_dup hC dX21_init_412 rfl ?_
  refine hn_bipush (v := 9) hC dX21_init_413 rfl ?_
  refine hn_ldcs (v := 0) 106 hC dX21_init_415 (List.mem_of_getElem? (i := 106) rfl) ?_
  refine hn_astS (L := [97, 98, 99, 100, 101, 102, 103, 104, 105]) hC 0 [97, 98, 99, 100, 101, 102, 103, 104, 105, 106] dX21_init_417 rfl rfl (inb_in rfl) (by decide) rfl ?_
  dsimp only [List.set_cons_zero, List.set_cons_succ]
  refine hn_dup hC dX21_init_418 rfl ?_
  refine hn_bipush (v := 10) hC dX21_init_419 rfl ?_
  refine hn_ldcs (v := 0) 107 hC dX21_init_421 (List.mem_of_getElem? (i := 107) rfl) ?_
  refine hn_astS (L := [97, 98, 99, 100, 101, 102, 103, 104, 105, 106]) hC 0 [97, 98, 99, 100, 101, 102, 103, 104, 105, 106, 107] dX21_init_423 rfl rfl (inb_in rfl) (by decide) rfl ?_
  dsimp only [List.set_cons_zero, List.set_cons_succ]
  refine hn_dup hC dX21_init_424 rfl ?_
  refine hn_bipush (v := 11) hC dX21_init_425 rfl ?_
  refine hn_ldcs (v := 0) 108 hC dX21_init_427 (List.mem_of_getElem? (i := 108) rfl) ?_
  refine hn_astS (L := [97, 98, 99, 100, 101, 102, 103, 104, 105, 106, 107]) hC 0 [97, 98, 99, 100, 101, 102, 103, 104, 105, 106, 107, 108] dX21_init_429 rfl rfl (inb_in rfl) (by decide) rfl ?_
  dsimp only [List.set_cons_zero, List.set_cons_succ]
  refine hn_dup hC dX21_init_430 rfl ?_
  refine hn_bipush (v := 12) hC dX21_init_431 rfl ?_
  refine hn_ldcs (v := 0) 109 hC dX21_init_433 (List.mem_of_getElem? (i := 109) rfl) ?_
  refine hn_astS (L := [97, 98, 99, 100, 101, 102, 103, 104, 105, 106, 107, 108]) hC 0 [97, 98, 99, 100, 101, 102, 103, 104, 105, 106, 107, 108, 109] dX21_init_435 rfl rfl (inb_in rfl) (by decide) rfl ?_
  dsimp only [List.set_cons_zero, List.set_cons_succ]
  refine hn_dup hC dX21_init_436 rfl ?_
  refine hn_bipush (v := 13) hC dX21_init_437 rfl ?_
  refine hn_ldcs (v := 0) 110 hC dX21_init_439 (List.mem_of_getElem? (i := 110) rfl) ?_
  refine hn_astS (L := [97, 98, 99, 100, 101, 102, 103, 104, 105, 106, 107, 108, 109]) hC 0 [97, 98, 99, 100, 101, 102, 103, 104, 105, 106, 107, 108, 109, 110] dX21_init_441 rfl rfl (inb_in rfl) (by decide) rfl ?_
  dsimp only [List.set_cons_zero, List.set_cons_succ]
  refine hn_dup hC dX21_init_442 rfl ?_
  refine hn_bipush (v := 14) hC dX21_init_443 rfl ?_
  refine hn_ldcs (v := 0) 111 hC dX21_init_445 (List.mem_of_getElem? (i := 111) rfl) ?_
  refine hn_astS (L := [97, 98, 99, 100, 101, 102, 103, 104, 105, 106, 107, 108, 109, 110]) hC 0 [97, 98, 99, 100, 101, 102, 103, 104, 105, 106, 107, 108, 109, 110, 111] dX21_init_447 rfl rfl (inb_in rfl) (by decide) rfl ?_
  dsimp only [List.set_cons_zero, List.set_cons_succ]
  refine hn_putF (C := RX21) (T := TX21) (N := 87) hC hmn 3 2 tyX21 dX21_init_448 q2844 in_X21 tyX21_ok nmX21 rfl rfl rfl rfl (by decide) rfl rfl rfl (Nat.le_of_ble_eq_true rfl) ?_
  dsimp only [List.set_cons_zero, List.set_cons_succ]
  refine hn_aload_n hC dX21_init_451 rfl ?_
  refine hn_bipush (v := 15) hC dX21_init_452 rfl ?_
  refine hn_newS (c9 := (c + 39)) (s9 := (s + 730152)) hC 15 dX21_init_454 q2756 (by decide) rfl (by decide) (by omega) (by omega) (fun q4 => ?_)
  refine hn_dup hC dX21_init_457 rfl ?_
  refine hn_iconst (v := 0) hC dX21_init_458 rfl ?_
  refine hn_ldcs (v := 0) 112 hC dX21_init_459 (List.mem_of_getElem? (i := 112) rfl) ?_
  refine hn_astS (L := []) hC 0 [112] dX21_init_461 rfl rfl (inb_in rfl) (by decide) rfl ?_
  dsimp only [List.set_cons_zero, List.set_cons_succ]
  refine hn_dup hC dX21_init_462 rfl ?_
  refine hn_iconst (v := 1) hC dX21_init_463 rfl ?_
  refine hn_ldcs (v := 0) 113 hC dX21_init_464 (List.mem_of_getElem? (i := 113) rfl) ?_
  refine hn_astS (L := [112]) hC 0 [112, 113] dX21_init_466 rfl rfl (inb_in rfl) (by decide) rfl ?_
  dsimp only [List.set_cons_zero, List.set_cons_succ]
  refine hn_dup hC dX21_init_467 rfl ?_
  refine hn_iconst (v := 2) hC dX21_init_468 rfl ?_
  refine hn_ldcs (v := 0) 114 hC dX21_init_469 (List.mem_of_getElem? (i := 114) rfl) ?_
  refine hn_astS (L := [112, 113]) hC 0 [112, 113, 114] dX21_init_471 rfl rfl (inb_in rfl) (by decide) rfl ?_
  dsimp only [List.set_cons_zero, List.set_cons_succ]
  refine hn_dup hC dX21_init_472 rfl ?_
  refine hn_iconst (v := 3) hC dX21_init_473 rfl ?_
  refine hn_ldcs (v := 0) 115 hC dX21_init_474 (List.mem_of_getElem? (i := 115) rfl) ?_
  refine hn_astS (L := [112, 113, 114]) hC 0 [112, 113, 114, 115] dX21_init_476 rfl rfl (inb_in rfl) (by decide) rfl ?_
  dsimp only [List.set_cons_zero, List.set_cons_succ]
  refine hn_dup hC dX21_init_477 rfl ?_
  refine hn_iconst (v := 4) hC dX21_init_478 rfl ?_
  refine hn_ldcs (v := 0) 115 hC dX21_init_479 (List.mem_of_getElem? (i := 115) rfl) ?_
  refine hn_astS (L := [112, 113, 114, 115]) hC 0 [112, 113, 114, 115, 115] dX21_init_481 rfl rfl (inb_in rfl) (by decide) rfl ?_
  dsimp only [List.set_cons_zero, List.set_cons_succ]
  refine hn_dup hC dX21_init_482 rfl ?_
  refine hn_iconst (v := 5) hC dX21_init_483 rfl ?_
  refine hn_ldcs (v := 0) 116 hC dX21_init_484 (List.mem_of_getElem? (i := 116) rfl) ?_
  refine hn_astS (L := [112, 113, 114, 115, 115]) hC 0 [112, 113, 114, 115, 115, 116] dX21_init_486 rfl rfl (inb_in rfl) (by decide) rfl ?_
  dsimp only [List.set_cons_zero, List.set_cons_succ]
  refine hn_dup hC dX21_init_487 rfl ?_
  refine hn_bipush (v := 6) hC dX21_init_488 rfl ?_
  refine hn_ldcs (v := 0) 115 hC dX21_init_490 (List.mem_of_getElem? (i := 115) rfl) ?_
  refine hn_astS (L := [112, 113, 114, 115, 115, 116]) hC 0 [112, 113, 114, 115, 115, 116, 115] dX21_init_492 rfl rfl (inb_in rfl) (by decide) rfl ?_
  dsimp only [List.set_cons_zero, List.set_cons_succ]
  refine hn_dup hC dX21_init_493 rfl ?_
  refine hn_bipush (v := 7) hC dX21_init_494 rfl ?_
  refine hn_ldcs (v := 0) 117 hC dX21_init_496 (List.mem_of_getElem? (i := 117) rfl) ?_
  refine hn_astS (L := [112, 113, 114, 115, 115, 116, 115]) hC 0 [112, 113, 114, 115, 115, 116, 115, 117] dX21_init_498 rfl rfl (inb_in rfl) (by decide) rfl ?_
  dsimp only [List.set_cons_zero, List.set_cons_succ]
  refine hn_dup hC dX21_init_499 rfl ?_
  refine hn_bipush (v := 8) hC dX21_init_500 rfl ?_
  refine hn_ldcs (v := 0) 117 hC dX21_init_502 (List.mem_of_getElem? (i := 117) rfl) ?_
  refine hn_astS (L := [112, 113, 114, 115, 115, 116, 115, 117]) hC 0 [112, 113, 114, 115, 115, 116, 115, 117, 117] dX21_init_504 rfl rfl (inb_in rfl) (by decide) rfl ?_
  dsimp only [List.set_cons_zero, List.set_cons_succ]
  refine hn_dup hC dX21_init_505 rfl ?_
  refine hn_bipush (v := 9) hC dX21_init_506 rfl ?_
  refine hn_ldcs (v := 0) 113 hC dX21_init_508 (List.mem_of_getElem? (i := 113) rfl) ?_
  refine hn_astS (L := [112, 113, 114, 115, 115, 116, 115, 117, 117]) hC 0 [112, 113, 114, 115, 115, 116, 115, 117, 117, 113] dX21_init_510 rfl rfl (inb_in rfl) (by decide) rfl ?_
  dsimp only [List.set_cons_zero, List.set_cons_succ]
  refine hn_dup hC dX21_init_511 rfl ?_
  refine hn_bipush (v := 10) hC dX21_init_512 rfl ?_
  refine hn_ldcs (v := 0) 115 hC dX21_init_514 (List.mem_of_getElem? (i := 115) rfl) ?_
  refine hn_astS (L := [112, 113, 114, 115, 115, 116, 115, 117, 117, 113]) hC 0 [112, 113, 114, 115, 115, 116, 115, 117, 117, 113, 115] dX21_init_516 rfl rfl (inb_in rfl) (by decide) rfl ?_
  dsimp only [List.set_cons_zero, List.set_cons_succ]
  refine hn_dup hC dX21_init_517 rfl ?_
  refine hn_bipush (v := 11) hC dX21_init_518 rfl ?_
  refine hn_ldcs (v := 0) 114 hC dX21_init_520 (List.mem_of_getElem? (i := 114) rfl) ?_
  refine hn_astS (L := [112, 113, 114, 115, 115, 116, 115, 117, 117, 113, 115]) hC 0 [112, 113, 114, 115, 115, 116, 115, 117, 117, 113, 115, 114] dX21_init_522 rfl rfl (inb_in rfl) (by decide) rfl ?_
  dsimp only [List.set_cons_zero, List.set_cons_succ]
  refine hn_dup hC dX21_init_523 rfl ?_
  refine hn_bipush (v := 12) hC dX21_init_524 rfl ?_
  refine hn_ldcs (v := 0) 118 hC dX21_init_526 (List.mem_of_getElem? (i := 118) rfl) ?_
  refine hn_astS (L := [112, 113, 114, 115, 115, 116, 115, 117, 117, 113, 115, 114]) hC 0 [112, 113, 114, 115, 115, 116, 115, 117, 117, 113, 115, 114, 118] dX21_init_528 rfl rfl (inb_in rfl) (by decide) rfl ?_
  dsimp only [List.set_cons_zero, List.set_cons_succ]
  refine hn_dup hC dX21_init_529 rfl ?_
  refine hn_bipush (v := 13) hC dX21_init_530 rfl ?_
  refine hn_ldcs (v := 0) 119 hC dX21_init_532 (List.mem_of_getElem? (i := 119) rfl) ?_
  refine hn_astS (L := [112, 113, 114, 115, 115, 116, 115, 117, 117, 113, 115, 114, 118]) hC 0 [112, 113, 114, 115, 115, 116, 115, 117, 117, 113, 115, 114, 118, 119] dX21_init_534 rfl rfl (inb_in rfl) (by decide) rfl ?_
  dsimp only [List.set_cons_zero, List.set_cons_succ]
  refine hn_dup hC dX21_init_535 rfl ?_
  refine hn_bipush (v := 14) hC dX21_init_536 rfl ?_
  refine hn_ldcs (v := 0) 120 hC dX21_init_538 (List.mem_of_getElem? (i := 120) rfl) ?_
  refine hn_astS (L := [112, 113, 114, 115, 115, 116, 115, 117, 117, 113, 115, 114, 118, 119]) hC 0 [112, 113, 114, 115, 115, 116, 115, 117, 117, 113, 115, 114, 118, 119, 120] dX21_init_540 rfl rfl (inb_in rfl) (by decide) rfl ?_
  dsimp only [List.set_cons_zero, List.set_cons_succ]
  refine hn_putF (C := RX21) (T := TX21) (N := 87) hC hmn 4 3 tyX21 dX21_init_541 q2845 in_X21 tyX21_ok nmX21 rfl rfl rfl rfl (by decide) rfl rfl rfl (Nat.le_of_ble_eq_true rfl) ?_
  dsimp only [List.set_cons_zero, List.set_cons_succ]
  refine hn_aload_n hC dX21_init_544 rfl ?_
  refine hn_sipush (v := 4096) hC dX21_init_545 rfl ?_
  refine hn_newB (c9 := (c + 38)) (s9 := (s + 726056)) hC 4096 dX21_init_548 q416 (by decide) rfl (by decide) (by omega) (by omega) (fun q5 => ?_)
  refine hn_putF (C := RX21) (T := TX21) (N := 87) hC hmn 5 5 tyX21 dX21_init_550 q2847 in_X21 tyX21_ok nmX21 rfl rfl rfl rfl (by decide) rfl rfl rfl (Nat.le_of_ble_eq_true rfl) ?_
  dsimp only [List.set_cons_zero, List.set_cons_succ]
  refine hn_aload_n hC dX21_init_553 rfl ?_
  refine hn_sipush (v := 4096) hC dX21_init_554 rfl ?_
  refine hn_newB (c9 := (c + 37)) (s9 := (s + 721960)) hC 4096 dX21_init_557 q416 (by decide) rfl (by decide) (by omega) (by omega) (fun q6 => ?_)
  refine hn_putF (C := RX21) (T := TX21) (N := 87) hC hmn 6 7 tyX21 dX21_init_559 q2849 in_X21 tyX21_ok nmX21 rfl rfl rfl rfl (by decide) rfl rfl rfl (Nat.le_of_ble_eq_true rfl) ?_
  dsimp only [List.set_cons_zero, List.set_cons_succ]
  refine hn_aload_n hC dX21_init_562 rfl ?_
  refine hn_sipush (v := 4100) hC dX21_init_563 rfl ?_
  refine hn_newI (c9 := (c + 36)) (s9 := (s + 717860)) hC 4100 dX21_init_566 q455 (by decide) rfl (by decide) (by omega) (by omega) (fun q7 => ?_)
  refine hn_putF (C := RX21) (T := TX21) (N := 87) hC hmn 7 11 tyX21 dX21_init_568 q2853 in_X21 tyX21_ok nmX21 rfl rfl rfl rfl (by decide) rfl rfl rfl (Nat.le_of_ble_eq_true rfl) ?_
  dsimp only [List.set_cons_zero, List.set_cons_succ]
  refine hn_aload_n hC dX21_init_571 rfl ?_
  refine hn_sipush (v := 4100) hC dX21_init_572 rfl ?_
  refine hn_newI (c9 := (c + 35)) (s9 := (s + 713760)) hC 4100 dX21_init_575 q455 (by decide) rfl (by decide) (by omega) (by omega) (fun q8 => ?_)
  refine hn_putF (C := RX21) (T := TX21) (N := 87) hC hmn 8 12 tyX21 dX21_init_577 q2854 in_X21 tyX21_ok nmX21 rfl rfl rfl rfl (by decide) rfl rfl rfl (Nat.le_of_ble_eq_true rfl) ?_
  dsimp only [List.set_cons_zero, List.set_cons_succ]
  refine hn_aload_n hC dX21_init_580 rfl ?_
  refine hn_sipush (v := 4100) hC dX21_init_581 rfl ?_
  refine hn_newB (c9 := (c + 34)) (s9 := (s + 709660)) hC 4100 dX21_init_584 q416 (by decide) rfl (by decide) (by omega) (by omega) (fun q9 => ?_)
  refine hn_putF (C := RX21) (T := TX21) (N := 87) hC hmn 9 13 tyX21 dX21_init_586 q2855 in_X21 tyX21_ok nmX21 rfl rfl rfl rfl (by decide) rfl rfl rfl (Nat.le_of_ble_eq_true rfl) ?_
  dsimp only [List.set_cons_zero, List.set_cons_succ]
  refine hn_aload_n hC dX21_init_589 rfl ?_
  refine hn_sipush (v := 4100) hC dX21_init_590 rfl ?_
  refine hn_newI (c9 := (c + 33)) (s9 := (s + 705560)) hC 4100 dX21_init_593 q455 (by decide) rfl (by decide) (by omega) (by omega) (fun q10 => ?_)
  refine hn_putF (C := RX21) (T := TX21) (N := 87) hC hmn 10 14 tyX21 dX21_init_595 q2856 in_X21 tyX21_ok nmX21 rfl rfl rfl rfl (by decide) rfl rfl rfl (Nat.le_of_ble_eq_true rfl) ?_
  dsimp only [List.set_cons_zero, List.set_cons_succ]
  refine hn_aload_n hC dX21_init_598 rfl ?_
  refine hn_sipush (v := 4200) hC dX21_init_599 rfl ?_
  refine hn_newB (c9 := (c + 32)) (s9 := (s + 701360)) hC 4200 dX21_init_602 q416 (by decide) rfl (by decide) (by omega) (by omega) (fun q11 => ?_)
  refine hn_putF (C := RX21) (T := TX21) (N := 87) hC hmn 11 18 tyX21 dX21_init_604 q2860 in_X21 tyX21_ok nmX21 rfl rfl rfl rfl (by decide) rfl rfl rfl (Nat.le_of_ble_eq_true rfl) ?_
  dsimp only [List.set_cons_zero, List.set_cons_succ]
  refine hn_aload_n hC dX21_init_607 rfl ?_
  refine hn_sipush (v := 4200) hC dX21_init_608 rfl ?_
  refine hn_newI (c9 := (c + 31)) (s9 := (s + 697160)) hC 4200 dX21_init_611 q455 (by decide) rfl (by decide) (by omega) (by omega) (fun q12 => ?_)
  refine hn_putF (C := RX21) (T := TX21) (N := 87) hC hmn 12 19 tyX21 dX21_init_613 q2861 in_X21 tyX21_ok nmX21 rfl rfl rfl rfl (by decide) rfl rfl rfl (Nat.le_of_ble_eq_true rfl) ?_
  dsimp only [List.set_cons_zero, List.set_cons_succ]
  refine hn_aload_n hC dX21_init_616 rfl ?_
  refine hn_sipush (v := 4200) hC dX21_init_617 rfl ?_
  refine hn_newI (c9 := (c + 30)) (s9 := (s + 692960)) hC 4200 dX21_init_620 q455 (by decide) rfl (by decide) (by omega) (by omega) (fun q13 => ?_)
  refine hn_putF (C := RX21) (T := TX21) (N := 87) hC hmn 13 20 tyX21 dX21_init_622 q2862 in_X21 tyX21_ok nmX21 rfl rfl rfl rfl (by decide) rfl rfl rfl (Nat.le_of_ble_eq_true rfl) ?_
  dsimp only [List.set_cons_zero, List.set_cons_succ]
  refine hn_aload_n hC dX21_init_625 rfl ?_
  refine hn_sipush (v := 4200) hC dX21_init_626 rfl ?_
  refine hn_newI (c9 := (c + 29)) (s9 := (s + 688760)) hC 4200 dX21_init_629 q455 (by decide) rfl (by decide) (by omega) (by omega) (fun q14 => ?_)
  refine hn_putF (C := RX21) (T := TX21) (N := 87) hC hmn 14 21 tyX21 dX21_init_631 q2863 in_X21 tyX21_ok nmX21 rfl rfl rfl rfl (by decide) rfl rfl rfl (Nat.le_of_ble_eq_true rfl) ?_
  dsimp only [List.set_cons_zero, List.set_cons_succ]
  refine hn_aload_n hC dX21_init_634 rfl ?_
  refine hn_sipush (v := 4200) hC dX21_init_635 rfl ?_
  refine hn_newI (c9 := (c + 28)) (s9 := (s + 684560)) hC 4200 dX21_init_638 q455 (by decide) rfl (by decide) (by omega) (by omega) (fun q15 => ?_)
  refine hn_putF (C := RX21) (T := TX21) (N := 87) hC hmn 15 22 tyX21 dX21_init_640 q2864 in_X21 tyX21_ok nmX21 rfl rfl rfl rfl (by decide) rfl rfl rfl (Nat.le_of_ble_eq_true rfl) ?_
  dsimp only [List.set_cons_zero, List.set_cons_succ]
  refine hn_aload_n hC dX21_init_643 rfl ?_
  refine hn_sipush (v := 4200) hC dX21_init_644 rfl ?_
  refine hn_newI (c9 := (c + 27)) (s9 := (s + 680360)) hC 4200 dX21_init_647 q455 (by decide) rfl (by decide) (by omega) (by omega) (fun q16 => ?_)
  refine hn_putF (C := RX21) (T := TX21) (N := 87) hC hmn 16 23 tyX21 dX21_init_649 q2865 in_X21 tyX21_ok nmX21 rfl rfl rfl rfl (by decide) rfl rfl rfl (Nat.le_of_ble_eq_true rfl) ?_
  dsimp only [List.set_cons_zero, List.set_cons_succ]
  refine hn_aload_n hC dX21_init_652 rfl ?_
  refine hn_sipush (v := 4200) hC dX21_init_653 rfl ?_
  refine hn_newI (c9 := (c + 26)) (s9 := (s + 676160)) hC 4200 dX21_init_656 q455 (by decide) rfl (by decide) (by omega) (by omega) (fun q17 => ?_)
  refine hn_putF (C := RX21) (T := TX21) (N := 87) hC hmn 17 24 tyX21 dX21_init_658 q2866 in_X21 tyX21_ok nmX21 rfl rfl rfl rfl (by decide) rfl rfl rfl (Nat.le_of_ble_eq_true rfl) ?_
  dsimp only [List.set_cons_zero, List.set_cons_succ]
  refine hn_aload_n hC dX21_init_661 rfl ?_
  refine hn_sipush (v := 4200) hC dX21_init_662 rfl ?_
  refine hn_newI (c9 := (c + 25)) (s9 := (s + 671960)) hC 4200 dX21_init_665 q455 (by decide) rfl (by decide) (by omega) (by omega) (fun q18 => ?_)
  refine hn_putF (C := RX21) (T := TX21) (N := 87) hC hmn 18 25 tyX21 dX21_init_667 q2867 in_X21 tyX21_ok nmX21 rfl rfl rfl rfl (by decide) rfl rfl rfl (Nat.le_of_ble_eq_true rfl) ?_
  dsimp only [List.set_cons_zero, List.set_cons_succ]
  refine hn_aload_n hC dX21_init_670 rfl ?_
  refine hn_sipush (v := 4200) hC dX21_init_671 rfl ?_
  refine hn_newI (c9 := (c + 24)) (s9 := (s + 667760)) hC 4200 dX21_init_674 q455 (by decide) rfl (by decide) (by omega) (by omega) (fun q19 => ?_)
  refine hn_putF (C := RX21) (T := TX21) (N := 87) hC hmn 19 26 tyX21 dX21_init_676 q2868 in_X21 tyX21_ok nmX21 rfl rfl rfl rfl (by decide) rfl rfl rfl (Nat.le_of_ble_eq_true rfl) ?_
  dsimp only [List.set_cons_zero, List.set_cons_succ]
  refine hn_aload_n hC dX21_init_679 rfl ?_
  refine hn_sipush (v := 4200) hC dX21_init_680 rfl ?_
  refine hn_newI (c9 := (c + 23)) (s9 := (s + 663560)) hC 4200 dX21_init_683 q455 (by decide) rfl (by decide) (by omega) (by omega) (fun q20 => ?_)
  refine hn_putF (C := RX21) (T := TX21) (N := 87) hC hmn 20 27 tyX21 dX21_init_685 q2869 in_X21 tyX21_ok nmX21 rfl rfl rfl rfl (by decide) rfl rfl rfl (Nat.le_of_ble_eq_true rfl) ?_
  dsimp only [List.set_cons_zero, List.set_cons_succ]
  refine hn_aload_n hC dX21_init_688 rfl ?_
  refine hn_sipush (v := 2048) hC dX21_init_689 rfl ?_
  refine hn_newI (c9 := (c + 22)) (s9 := (s + 661512)) hC 2048 dX21_init_692 q455 (by decide) rfl (by decide) (by omega) (by omega) (fun q21 => ?_)
  refine hn_putF (C := RX21) (T := TX21) (N := 87) hC hmn 21 31 tyX21 dX21_init_694 q2873 in_X21 tyX21_ok nmX21 rfl rfl rfl rfl (by decide) rfl rfl rfl (Nat.le_of_ble_eq_true rfl) ?_
  dsimp only [List.set_cons_zero, List.set_cons_succ]
  refine hn_aload_n hC dX21_init_697 rfl ?_
  refine hn_sipush (v := 2048) hC dX21_init_698 rfl ?_
  refine hn_newI (c9 := (c + 21)) (s9 := (s + 659464)) hC 2048 dX21_init_701 q455 (by decide) rfl (by decide) (by omega) (by omega) (fun q22 => ?_)
  refine hn_putF (C := RX21) (T := TX21) (N := 87) hC hmn 22 32 tyX21 dX21_init_703 q2874 in_X21 tyX21_ok nmX21 rfl rfl rfl rfl (by decide) rfl rfl rfl (Nat.le_of_ble_eq_true rfl) ?_
  dsimp only [List.set_cons_zero, List.set_cons_succ]
  refine hn_aload_n hC dX21_init_706 rfl ?_
  refine hn_sipush (v := 2048) hC dX21_init_707 rfl ?_
  refine hn_newI (c9 := (c + 20)) (s9 := (s + 657416)) hC 2048 dX21_init_710 q455 (by decide) rfl (by decide) (by omega) (by omega) (fun q23 => ?_)
  refine hn_putF (C := RX21) (T := TX21) (N := 87) hC hmn 23 33 tyX21 dX21_init_712 q2875 in_X21 tyX21_ok nmX21 rfl rfl rfl rfl (by decide) rfl rfl rfl (Nat.le_of_ble_eq_true rfl) ?_
  dsimp only [List.set_cons_zero, List.set_cons_succ]
  refine hn_aload_n hC dX21_init_715 rfl ?_
  refine hn_sipush (v := 2100) hC dX21_init_716 rfl ?_
  refine hn_newI (c9 := (c + 19)) (s9 := (s + 655316)) hC 2100 dX21_init_719 q455 (by decide) rfl (by decide) (by omega) (by omega) (fun q24 => ?_)
  refine hn_putF (C := RX21) (T := TX21) (N := 87) hC hmn 24 39 tyX21 dX21_init_721 q2880 in_X21 tyX21_ok nmX21 rfl rfl rfl rfl (by decide) rfl rfl rfl (Nat.le_of_ble_eq_true rfl) ?_
  dsimp only [List.set_cons_zero, List.set_cons_succ]
  refine hn_aload_n hC dX21_init_724 rfl ?_
  refine hn_sipush (v := 2100) hC dX21_init_725 rfl ?_
  refine hn_newI (c9 := (c + 18)) (s9 := (s + 653216)) hC 2100 dX21_init_728 q455 (by decide) rfl (by decide) (by omega) (by omega) (fun q25 => ?_)
  refine hn_putF (C := RX21) (T := TX21) (N := 87) hC hmn 25 40 tyX21 dX21_init_730 q2881 in_X21 tyX21_ok nmX21 rfl rfl rfl rfl (by decide) rfl rfl rfl (Nat.le_of_ble_eq_true rfl) ?_
  dsimp only [List.set_cons_zero, List.set_cons_succ]
  refine hn_aload_n hC dX21_init_733 rfl ?_
  refine hn_sipush (v := 2100) hC dX21_init_734 rfl ?_
  refine hn_newI (c9 := (c + 17)) (s9 := (s + 651116)) hC 2100 dX21_init_737 q455 (by decide) rfl (by decide) (by omega) (by omega) (fun q26 => ?_)
  refine hn_putF (C := RX21) (T := TX21) (N := 87) hC hmn 26 41 tyX21 dX21_init_739 q2882 in_X21 tyX21_ok nmX21 rfl rfl rfl rfl (by decide) rfl rfl rfl (Nat.le_of_ble_eq_true rfl) ?_
  dsimp only [List.set_cons_zero, List.set_cons_succ]
  refine hn_aload_n hC dX21_init_742 rfl ?_
  refine hn_sipush (v := 600) hC dX21_init_743 rfl ?_
  refine hn_newI (c9 := (c + 16)) (s9 := (s + 650516)) hC 600 dX21_init_746 q455 (by decide) rfl (by decide) (by omega) (by omega) (fun q27 => ?_)
  refine hn_putF (C := RX21) (T := TX21) (N := 87) hC hmn 27 44 tyX21 dX21_init_748 q2885 in_X21 tyX21_ok nmX21 rfl rfl rfl rfl (by decide) rfl rfl rfl (Nat.le_of_ble_eq_true rfl) ?_
  dsimp only [List.set_cons_zero, List.set_cons_succ]
  refine hn_aload_n hC dX21_init_751 rfl ?_
  refine hn_sipush (v := 600) hC dX21_init_752 rfl ?_
  refine hn_newI (c9 := (c + 15)) (s9 := (s + 649916)) hC 600 dX21_init_755 q455 (by decide) rfl (by decide) (by omega) (by omega) (fun q28 => ?_)
  refine hn_putF (C := RX21) (T := TX21) (N := 87) hC hmn 28 45 tyX21 dX21_init_757 q2886 in_X21 tyX21_ok nmX21 rfl rfl rfl rfl (by decide) rfl rfl rfl (Nat.le_of_ble_eq_true rfl) ?_
  dsimp only [List.set_cons_zero, List.set_cons_succ]
  refine hn_aload_n hC dX21_init_760 rfl ?_
  refine hn_sipush (v := 2100) hC dX21_init_761 rfl ?_
  refine hn_newB (c9 := (c + 14)) (s9 := (s + 647816)) hC 2100 dX21_init_764 q416 (by decide) rfl (by decide) (by omega) (by omega) (fun q29 => ?_)
  refine hn_putF (C := RX21) (T := TX21) (N := 87) hC hmn 29 54 tyX21 dX21_init_766 q2895 in_X21 tyX21_ok nmX21 rfl rfl rfl rfl (by decide) rfl rfl rfl (Nat.le_of_ble_eq_true rfl) ?_
  dsimp only [List.set_cons_zero, List.set_cons_succ]
  refine hn_aload_n hC dX21_init_769 rfl ?_
  refine hn_sipush (v := 2100) hC dX21_init_770 rfl ?_
  refine hn_newZ (c9 := (c + 13)) (s9 := (s + 645716)) hC 2100 dX21_init_773 q881 (by decide) rfl (by decide) (by omega) (by omega) (fun q30 => ?_)
  refine hn_putF (C := RX21) (T := TX21) (N := 87) hC hmn 30 55 tyX21 dX21_init_775 q2896 in_X21 tyX21_ok nmX21 rfl rfl rfl rfl (by decide) rfl rfl rfl (Nat.le_of_ble_eq_true rfl) ?_
  dsimp only [List.set_cons_zero, List.set_cons_succ]
  refine hn_aload_n hC dX21_init_778 rfl ?_
  refine hn_sipush (v := 2100) hC dX21_init_779 rfl ?_
  refine hn_newI (c9 := (c + 12)) (s9 := (s + 643616)) hC 2100 dX21_init_782 q455 (by decide) rfl (by decide) (by omega) (by omega) (fun q31 => ?_)
  refine hn_putF (C := RX21) (T := TX21) (N := 87) hC hmn 31 56 tyX21 dX21_init_784 q2897 in_X21 tyX21_ok nmX21 rfl rfl rfl rfl (by decide) rfl rfl rfl (Nat.le_of_ble_eq_true rfl) ?_
  dsimp only [List.set_cons_zero, List.set_cons_succ]
  refine hn_aload_n hC dX21_init_787 rfl ?_
  refine hn_sipush (v := 2100) hC dX21_init_788 rfl ?_
  refine hn_newI (c9 := (c + 11)) (s9 := (s + 641516)) hC 2100 dX21_init_791 q455 (by decide) rfl (by decide) (by omega) (by omega) (fun q32 => ?_)
  refine hn_putF (C := RX21) (T := TX21) (N := 87) hC hmn 32 57 tyX21 dX21_init_793 q2898 in_X21 tyX21_ok nmX21 rfl rfl rfl rfl (by decide) rfl rfl rfl (Nat.le_of_ble_eq_true rfl) ?_
  dsimp only [List.set_cons_zero, List.set_cons_succ]
  refine hn_aload_n hC dX21_init_796 rfl ?_
  refine hn_sipush (v := 2100) hC dX21_init_797 rfl ?_
  refine hn_newI (c9 := (c + 10)) (s9 := (s + 639416)) hC 2100 dX21_init_800 q455 (by decide) rfl (by decide) (by omega) (by omega) (fun q33 => ?_)
  refine hn_putF (C := RX21) (T := TX21) (N := 87) hC hmn 33 58 tyX21 dX21_init_802 q2899 in_X21 tyX21_ok nmX21 rfl rfl rfl rfl (by decide) rfl rfl rfl (Nat.le_of_ble_eq_true rfl) ?_
  dsimp only [List.set_cons_zero, List.set_cons_succ]
  refine hn_aload_n hC dX21_init_805 rfl ?_
  refine hn_sipush (v := 600) hC dX21_init_806 rfl ?_
  refine hn_newI (c9 := (c + 9)) (s9 := (s + 638816)) hC 600 dX21_init_809 q455 (by decide) rfl (by decide) (by omega) (by omega) (fun q34 => ?_)
  refine hn_putF (C := RX21) (T := TX21) (N := 87) hC hmn 34 61 tyX21 dX21_init_811 q2902 in_X21 tyX21_ok nmX21 rfl rfl rfl rfl (by decide) rfl rfl rfl (Nat.le_of_ble_eq_true rfl) ?_
  dsimp only [List.set_cons_zero, List.set_cons_succ]
  refine hn_aload_n hC dX21_init_814 rfl ?_
  refine hn_ldcw hC dX21_init_815 q2839 ?_
  refine hn_newI (c9 := (c + 8)) (s9 := (s + 601816)) hC 37000 dX21_init_818 q455 (by decide) rfl (by decide) (by omega) (by omega) (fun q35 => ?_)
  refine hn_putF (C := RX21) (T := TX21) (N := 87) hC hmn 35 66 tyX21 dX21_init_820 q2907 in_X21 tyX21_ok nmX21 rfl rfl rfl rfl (by decide) rfl rfl rfl (Nat.le_of_ble_eq_true rfl) ?_
  dsimp only [List.set_cons_zero, List.set_cons_succ]
  refine hn_aload_n hC dX21_init_823 rfl ?_
  refine hn_ldcw hC dX21_init_824 q2840 ?_
  refine hn_newI (c9 := (c + 7)) (s9 := (s + 401816)) hC 200000 dX21_init_827 q455 (by decide) rfl (by decide) (by omega) (by omega) (fun q36 => ?_)
  refine hn_putF (C := RX21) (T := TX21) (N := 87) hC hmn 36 70 tyX21 dX21_init_829 q2911 in_X21 tyX21_ok nmX21 rfl rfl rfl rfl (by decide) rfl rfl rfl (Nat.le_of_ble_eq_true rfl) ?_
  dsimp only [List.set_cons_zero, List.set_cons_succ]
  refine hn_aload_n hC dX21_init_832 rfl ?_
  refine hn_ldcw hC dX21_init_833 q2840 ?_
  refine hn_newI (c9 := (c + 6)) (s9 := (s + 201816)) hC 200000 dX21_init_836 q455 (by decide) rfl (by decide) (by omega) (by omega) (fun q37 => ?_)
  refine hn_putF (C := RX21) (T := TX21) (N := 87) hC hmn 37 71 tyX21 dX21_init_838 q2912 in_X21 tyX21_ok nmX21 rfl rfl rfl rfl (by decide) rfl rfl rfl (Nat.le_of_ble_eq_true rfl) ?_
  dsimp only [List.set_cons_zero, List.set_cons_succ]
  refine hn_aload_n hC dX21_init_841 rfl ?_
  refine hn_ldcw hC dX21_init_842 q2840 ?_
  refine hn_newI (c9 := (c + 5)) (s9 := (s + 1816)) hC 200000 dX21_init_845 q455 (by decide) rfl (by decide) (by omega) (by omega) (fun q38 => ?_)
  refine hn_putF (C := RX21) (T := TX21) (N := 87) hC hmn 38 73 tyX21 dX21_init_847 q2914 in_X21 tyX21_ok nmX21 rfl rfl rfl rfl (by decide) rfl rfl rfl (Nat.le_of_ble_eq_true rfl) ?_
  dsimp only [List.set_cons_zero, List.set_cons_succ]
  refine hn_aload_n hC dX21_init_850 rfl ?_
  refine hn_sipush (v := 300) hC dX21_init_851 rfl ?_
  refine hn_newI (c9 := (c + 4)) (s9 := (s + 1516)) hC 300 dX21_init_854 q455 (by decide) rfl (by decide) (by omega) (by omega) (fun q39 => ?_)
  refine hn_putF (C := RX21) (T := TX21) (N := 87) hC hmn 39 75 tyX21 dX21_init_856 q2916 in_X21 tyX21_ok nmX21 rfl rfl rfl rfl (by decide) rfl rfl rfl (Nat.le_of_ble_eq_true rfl) ?_
  dsimp only [List.set_cons_zero, List.set_cons_succ]
  refine hn_aload_n hC dX21_init_859 rfl ?_
  refine hn_sipush (v := 300) hC dX21_init_860 rfl ?_
  refine hn_newI (c9 := (c + 3)) (s9 := (s + 1216)) hC 300 dX21_init_863 q455 (by decide) rfl (by decide) (by omega) (by omega) (fun q40 => ?_)
  refine hn_putF (C := RX21) (T := TX21) (N := 87) hC hmn 40 76 tyX21 dX21_init_865 q2917 in_X21 tyX21_ok nmX21 rfl rfl rfl rfl (by decide) rfl rfl rfl (Nat.le_of_ble_eq_true rfl) ?_
  dsimp only [List.set_cons_zero, List.set_cons_succ]
  refine hn_aload_n hC dX21_init_868 rfl ?_
  refine hn_sipush (v := 1024) hC dX21_init_869 rfl ?_
  refine hn_newI (c9 := (c + 2)) (s9 := (s + 192)) hC 1024 dX21_init_872 q455 (by decide) rfl (by decide) (by omega) (by omega) (fun q41 => ?_)
  refine hn_putF (C := RX21) (T := TX21) (N := 87) hC hmn 41 82 tyX21 dX21_init_874 q2923 in_X21 tyX21_ok nmX21 rfl rfl rfl rfl (by decide) rfl rfl rfl (Nat.le_of_ble_eq_true rfl) ?_
  dsimp only [List.set_cons_zero, List.set_cons_succ]
  refine hn_aload_n hC dX21_init_877 rfl ?_
  refine hn_bipush (v := 64) hC dX21_init_878 rfl ?_
  refine hn_newI (c9 := (c + 1)) (s9 := (s + 128)) hC 64 dX21_init_880 q455 (by decide) rfl (by decide) (by omega) (by omega) (fun q42 => ?_)
  refine hn_putF (C := RX21) (T := TX21) (N := 87) hC hmn 42 84 tyX21 dX21_init_882 q2925 in_X21 tyX21_ok nmX21 rfl rfl rfl rfl (by decide) rfl rfl rfl (Nat.le_of_ble_eq_true rfl) ?_
  dsimp only [List.set_cons_zero, List.set_cons_succ]
  refine hn_aload_n hC dX21_init_885 rfl ?_
  refine hn_sipush (v := 128) hC dX21_init_886 rfl ?_
  refine hn_newI (c9 := c) (s9 := s) hC 128 dX21_init_889 q455 (by decide) rfl (by decide) (by omega) (by omega) (fun q43 => ?_)
  refine hn_putF (C := RX21) (T := TX21) (N := 87) hC hmn 43 85 tyX21 dX21_init_891 q2926 in_X21 tyX21_ok nmX21 rfl rfl rfl rfl (by decide) rfl rfl rfl (Nat.le_of_ble_eq_true rfl) ?_
  dsimp only [List.set_cons_zero, List.set_cons_succ]
  refine hn_aload_n hC dX21_init_894 rfl ?_
  refine hn_ldcw hC dX21_init_895 q2841 ?_
  refine hn_put (C := RX21) (T := TX21) (N := 87) hC 43 86 tyX21 dX21_init_898 q2927 in_X21 tyX21_ok nmX21 rfl rfl rfl (by decide) rfl rfl rfl (Nat.le_of_ble_eq_true rfl) ?_
  dsimp only [List.set_cons_zero, List.set_cons_succ]
  refine hn_aload_n hC dX21_init_901 rfl ?_
  refine hn_iconst (v := 0) hC dX21_init_902 rfl ?_
  refine hn_put (C := RX21) (T := TX21) (N := 87) hC 43 6 tyX21 dX21_init_903 q2848 in_X21 tyX21_ok nmX21 rfl rfl rfl (by decide) rfl rfl rfl (Nat.le_of_ble_eq_true rfl) ?_
  dsimp only [List.set_cons_zero, List.set_cons_succ]
  exact hn_vret (Y := (l, A, fun _ _ => 0, [])) (F := fun q => nc_X21_init E a W0 q) hC (fun k => ([q43, q42, q41, q40, q39, q38, q37, q36, q35, q34, q33, q32, q31, q30, q29, q28, q27, q26, q25, q24, q23, q22, q21, q20, q19, q18, q17, q16, q15, q14, q13, q12, q11, q10, q9, q8, q7, q6, q5, q4, q3, q2, q1] : List Nat).getD k 0) rfl dX21_init_906
