set_option maxRecDepth 20000
/-- HomeCompiler$Checker.variable(II)V -/
def fm_X8_variable (n : Nat) (k0 : Nat) (x1 : Int32) (x2 : Int32) (σ : hc_St) : Option hc_St := Option.bind (fm_X6_first x1 σ) fun r1 => Option.bind (fm_X6_op x1 σ) fun r5 => Option.bind (α := hc_St × Int32) (if r5 = 1 then (Option.bind (fm_X8_constant n k0 r1 σ) fun r51 => if r51.1 = 0 then (Option.bind (fm_X6_next r1 r51.2) fun r57 => Option.bind (fm_X8_fill n k0 r57 x2 2147483647 r51.2) fun r61 => some (r61, 1)) else (Option.bind (fm_X6_value r1 r51.2) fun r65 => Option.bind (α := hc_St × Int32) (if r65 < 1 then (Option.bind (fm_X6_place r1 r51.2) fun r75 => Option.bind (fm_X9_say 8 r75 r51.2) fun r79 => some (r79, 4096)) else (if r65 ≤ 4096 then (some (r51.2, r65)) else (Option.bind (fm_X6_place r1 r51.2) fun r85 => Option.bind (fm_X9_say 8 r85 r51.2) fun r89 => some (r89, 4096)))) fun r71 => Option.bind (fm_X6_next r1 r71.1) fun r93 => Option.bind (fm_X8_fill n k0 r93 x2 r71.2 r71.1) fun r97 => some (r97, r71.2))) else (if r1 = (-1) then (if r1 = (-1) then (some (σ, 0)) else (Option.bind (fm_X6_first r1 σ) fun r19 => Option.bind (fm_X8_number n k0 r19 σ) fun r23 => some (r23.2, 0))) else (if (gI σ 8 11) = (-1) then (Option.bind (fm_X8_told n k0 r1 σ) fun r39 => Option.bind (fm_X6_setValue r1 r39.1 r39.2) fun r43 => Option.bind (fm_X6_setOp r1 1 r43) fun r47 => some (r47, 0)) else (if r1 = (-1) then (some (σ, 0)) else (Option.bind (fm_X6_first r1 σ) fun r31 => Option.bind (fm_X8_number n k0 r31 σ) fun r35 => some (r35.2, 0)))))) fun r11 => Option.bind (fm_X11_add n x2 r11.2 ((gI r11.1 8 11)) r11.1) fun r101 => Option.bind (fm_X6_setExtra x1 r101.1 r101.2) fun r105 => Option.bind (fm_X6_value x1 r105) fun r109 => Option.bind (fm_X6_place x1 r105) fun r113 => Option.bind (fm_X8_declare r109 1 r101.1 r113 r105) fun r117 => some r117
set_option maxRecDepth 20000 in
set_option maxHeartbeats 4000000 in
theorem okX8_variable (l : Launch) (E : hc_E) (A : Nat → Prop) (d : Nat) (n : Nat) (k0 : Nat) (hD : 2 * k0 + 12 ≤ d) {x1 : Int32} {x2 : Int32} {σ : hc_St} {r : hc_St} (h : fm_X8_variable n k0 x1 x2 σ = some r) (am : Nat → Nat → Nat) : hc_M l hc_V0 yX8_variable (ws_ yX8_variable cX8_variable 6 none) d E A [.ref (E.2.1 8), .int x1, .int x2] am [10, 11] σ (.inl none) r := by
  have hd1 : 1 ≤ d := by omega
  have hd8 : 9 ≤ d := by omega
  refine hc_enter2 (own := RX8) [(0, .ref (E.2.1 8)), (1, .int x1), (2, .int x2)] pl_X8 rfl hc_V0_st hc_G0_nd rfl (Nat.le_of_ble_eq_true rfl) (fun X hC hem => ?_)
  unfold fm_X8_variable at h
  refine hr_iconst (v := 0) hC dX8_variable_0 rfl ?_
  refine hr_istore_n hC dX8_variable_1 (by decide) ?_
  refine hr_aload_n hC dX8_variable_2 rfl ?_
  refine hr_gO 6 hC F8_0 rfl dX8_variable_3 q661 ?_
  refine hr_iload_n hC dX8_variable_6 rfl ?_
  obtain ⟨r1, e2, h⟩ := hx_bind h
  refine hs_callV0 hC 6 [_] _ dX8_variable_7 q1575 q1576 q1577 q320 q1578 np_X6 rfl OB_6 pd_X6_first (Nat.le_of_ble_eq_true rfl) hd1 (okX6_first l E A (d - 1)  (by omega)  e2 am) rfl ?_
  refine hr_istore hC dX8_variable_10 (by decide) ?_
  refine hr_aload_n hC dX8_variable_12 rfl ?_
  refine hr_gO 6 hC F8_0 rfl dX8_variable_13 q661 ?_
  refine hr_iload_n hC dX8_variable_16 rfl ?_
  obtain ⟨r5, e6, h⟩ := hx_bind h
  refine hs_callV0 hC 6 [_] _ dX8_variable_17 q1638 q1639 q1640 q320 q1641 np_X6 rfl OB_6 pd_X6_op (Nat.le_of_ble_eq_true rfl) hd1 (okX6_op l E A (d - 1)  (by omega)  e6 am) rfl ?_
  refine hr_iconst (v := 1) hC dX8_variable_20 rfl ?_
  obtain ⟨r11, e12, h⟩ := hx_bind h
  have J13 : hc_At hc_V0 E 6 X 177 [(0, .ref (E.2.1 8)), (1, .int x1), (2, .int x2), (3, .int r11.2)] [] r11.1 am [] := by
    refine hr_aload_n hC dX8_variable_177 rfl ?_
    refine hr_gO 11 hC F8_5 rfl dX8_variable_178 q666 ?_
    refine hr_iload_n hC dX8_variable_181 rfl ?_
    refine hr_iload_n hC dX8_variable_182 rfl ?_
    refine hr_aload_n hC dX8_variable_183 rfl ?_
    refine hr_gI hC F8_11 dX8_variable_184 q672 ?_
    obtain ⟨r101, e102, h⟩ := hx_bind h
    refine hs_callV hC 11 [_, _, _] _ dX8_variable_187 q1748 q1749 q1750 q325 q1751 np_X11 rfl OB_11 pd_X11_add (Nat.le_of_ble_eq_true rfl) hd1 (okX11_add l E A (d - 1) n (by omega)  e102 am) (hc_rb rfl) rfl (fun am103 ha104 => ?_)
    refine hr_istore hC dX8_variable_190 (by decide) ?_
    refine hr_aload_n hC dX8_variable_192 rfl ?_
    refine hr_gO 6 hC F8_0 rfl dX8_variable_193 q661 ?_
    refine hr_iload_n hC dX8_variable_196 rfl ?_
    refine hr_iload hC dX8_variable_197 rfl ?_
    obtain ⟨r105, e106, h⟩ := hx_bind h
    refine hs_callV0 hC 6 [_, _] _ dX8_variable_199 q1601 q1463 q1464 q320 q1465 np_X6 rfl OB_6 pd_X6_setExtra (Nat.le_of_ble_eq_true rfl) hd1 (okX6_setExtra l E A (d - 1)  (by omega)  e106 am103) rfl ?_
    refine hr_aload_n hC dX8_variable_202 rfl ?_
    refine hr_aload_n hC dX8_variable_203 rfl ?_
    refine hr_gO 6 hC F8_0 rfl dX8_variable_204 q661 ?_
    refine hr_iload_n hC dX8_variable_207 rfl ?_
    obtain ⟨r109, e110, h⟩ := hx_bind h
    refine hs_callV0 hC 6 [_] _ dX8_variable_208 q1585 q1586 q1587 q320 q1588 np_X6 rfl OB_6 pd_X6_value (Nat.le_of_ble_eq_true rfl) hd1 (okX6_value l E A (d - 1)  (by omega)  e110 am103) rfl ?_
    refine hr_iconst (v := 1) hC dX8_variable_211 rfl ?_
    refine hr_iload hC dX8_variable_212 rfl ?_
    refine hr_aload_n hC dX8_variable_214 rfl ?_
    refine hr_gO 6 hC F8_0 rfl dX8_variable_215 q661 ?_
    refine hr_iload_n hC dX8_variable_218 rfl ?_
    obtain ⟨r113, e114, h⟩ := hx_bind h
    refine hs_callV0 hC 6 [_] _ dX8_variable_219 q1593 q1594 q1595 q320 q1596 np_X6 rfl OB_6 pd_X6_place (Nat.le_of_ble_eq_true rfl) hd1 (okX6_place l E A (d - 1)  (by omega)  e114 am103) rfl ?_
    obtain ⟨r117, e118, h⟩ := hx_bind h
    refine hs_callV hC 8 [_, _, _, _] _ dX8_variable_222 q1726 q1728 qs75 q322 q1729 np_X8 rfl OB_8 pd_X8_declare (Nat.le_of_ble_eq_true rfl) hd1 (okX8_declare l E A (d - 1)  (by omega)  e118 am103) (hc_rb rfl) rfl (fun am119 ha120 => ?_)
    obtain rfl := Option.some.inj h
    exact hr_vret hC dX8_variable_225
  clear h
  have h := e12
  refine hr_icmp_ne (x := _) hC 116 dX8_variable_21 (by decide) (fun c10 => ?_) (fun c10 => ?_)
  · rw [if_neg c10] at h
    refine hr_iload hC dX8_variable_116 rfl ?_
    refine hr_iconst (v := (-1)) hC dX8_variable_118 rfl ?_
    refine hr_icmp_eq (x := _) hC 158 dX8_variable_119 (by decide) (fun c16 => ?_) (fun c16 => ?_)
    · rw [if_pos c16] at h
      refine hr_iload hC dX8_variable_158 rfl ?_
      refine hr_iconst (v := (-1)) hC dX8_variable_160 rfl ?_
      refine hr_icmp_eq (x := _) hC 177 dX8_variable_161 (by decide) (fun c18 => ?_) (fun c18 => ?_)
      · rw [if_pos c18] at h
        obtain rfl := Option.some.inj h
        exact hr_sub _ rfl (J13)
      · rw [if_neg c18] at h
        refine hr_aload_n hC dX8_variable_164 rfl ?_
        refine hr_aload_n hC dX8_variable_165 rfl ?_
        refine hr_gO 6 hC F8_0 rfl dX8_variable_166 q661 ?_
        refine hr_iload hC dX8_variable_169 rfl ?_
        obtain ⟨r19, e20, h⟩ := hx_bind h
        refine hs_callV0 hC 6 [_] _ dX8_variable_171 q1575 q1576 q1577 q320 q1578 np_X6 rfl OB_6 pd_X6_first (Nat.le_of_ble_eq_true rfl) hd1 (okX6_first l E A (d - 1)  (by omega)  e20 am) rfl ?_
        obtain ⟨r23, e24, h⟩ := hx_bind h
        refine hs_callV0 hC 8 [_] _ dX8_variable_174 q1618 q1620 qs60 q322 q1621 np_X8 rfl OB_8 pd_X8_number (Nat.le_of_ble_eq_true rfl) hd1 (okX8_number l E A (d - 1) n k0 (by omega)  e24 am) rfl ?_
        obtain rfl := Option.some.inj h
        exact hr_sub _ rfl (J13)
    · rw [if_neg c16] at h
      refine hr_aload_n hC dX8_variable_122 rfl ?_
      refine hr_gI hC F8_11 dX8_variable_123 q672 ?_
      refine hr_iconst (v := (-1)) hC dX8_variable_126 rfl ?_
      refine hr_icmp_ne (x := _) hC 158 dX8_variable_127 (by decide) (fun c28 => ?_) (fun c28 => ?_)
      · rw [if_neg c28] at h
        refine hr_iload hC dX8_variable_158 rfl ?_
        refine hr_iconst (v := (-1)) hC dX8_variable_160 rfl ?_
        refine hr_icmp_eq (x := _) hC 177 dX8_variable_161 (by decide) (fun c30 => ?_) (fun c30 => ?_)
        · rw [if_pos c30] at h
          obtain rfl := Option.some.inj h
          exact hr_sub _ rfl (J13)
        · rw [if_neg c30] at h
          refine hr_aload_n hC dX8_variable_164 rfl ?_
          refine hr_aload_n hC dX8_variable_165 rfl ?_
          refine hr_gO 6 hC F8_0 rfl dX8_variable_166 q661 ?_
          refine hr_iload hC dX8_variable_169 rfl ?_
          obtain ⟨r31, e32, h⟩ := hx_bind h
          refine hs_callV0 hC 6 [_] _ dX8_variable_171 q1575 q1576 q1577 q320 q1578 np_X6 rfl OB_6 pd_X6_first (Nat.le_of_ble_eq_true rfl) hd1 (okX6_first l E A (d - 1)  (by omega)  e32 am) rfl ?_
          obtain ⟨r35, e36, h⟩ := hx_bind h
          refine hs_callV0 hC 8 [_] _ dX8_variable_174 q1618 q1620 qs60 q322 q1621 np_X8 rfl OB_8 pd_X8_number (Nat.le_of_ble_eq_true rfl) hd1 (okX8_number l E A (d - 1) n k0 (by omega)  e36 am) rfl ?_
          obtain rfl := Option.some.inj h
          exact hr_sub _ rfl (J13)
      · rw [if_pos c28] at h
        refine hr_aload_n hC dX8_variable_130 rfl ?_
        refine hr_gO 6 hC F8_0 rfl dX8_variable_131 q661 ?_
        refine hr_iload hC dX8_variable_134 rfl ?_
        refine hr_aload_n hC dX8_variable_136 rfl ?_
        refine hr_iload hC dX8_variable_137 rfl ?_
        obtain ⟨r39, e40, h⟩ := hx_bind h
        refine hs_callV0 hC 8 [_] _ dX8_variable_139 q1743 q1745 qs79 q322 q1746 np_X8 rfl OB_8 pd_X8_told (Nat.le_of_ble_eq_true rfl) hd1 (okX8_told l E A (d - 1) n k0 (by omega)  e40 am) rfl ?_
        obtain ⟨r43, e44, h⟩ := hx_bind h
        refine hs_callV0 hC 6 [_, _] _ dX8_variable_142 q1722 q1723 q1724 q320 q1725 np_X6 rfl OB_6 pd_X6_setValue (Nat.le_of_ble_eq_true rfl) hd1 (okX6_setValue l E A (d - 1)  (by omega)  e44 am) rfl ?_
        refine hr_aload_n hC dX8_variable_145 rfl ?_
        refine hr_gO 6 hC F8_0 rfl dX8_variable_146 q661 ?_
        refine hr_iload hC dX8_variable_149 rfl ?_
        refine hr_iconst (v := 1) hC dX8_variable_151 rfl ?_
        obtain ⟨r47, e48, h⟩ := hx_bind h
        refine hs_callV0 hC 6 [_, _] _ dX8_variable_152 q1747 q1487 q1488 q320 q1489 np_X6 rfl OB_6 pd_X6_setOp (Nat.le_of_ble_eq_true rfl) hd1 (okX6_setOp l E A (d - 1)  (by omega)  e48 am) rfl ?_
        refine hr_goto hC 177 dX8_variable_155 (by decide) ?_
        obtain rfl := Option.some.inj h
        exact hr_sub _ rfl (J13)
  · rw [if_pos c10] at h
    refine hr_iconst (v := 1) hC dX8_variable_24 rfl ?_
    refine hr_istore_n hC dX8_variable_25 (by decide) ?_
    refine hr_aload_n hC dX8_variable_26 rfl ?_
    refine hr_iload hC dX8_variable_27 rfl ?_
    obtain ⟨r51, e52, h⟩ := hx_bind h
    refine hs_callV0 hC 8 [_] _ dX8_variable_29 q1610 q1612 qs58 q322 q1613 np_X8 rfl OB_8 pd_X8_constant (Nat.le_of_ble_eq_true rfl) hd1 (okX8_constant l E A (d - 1) n k0 (by omega)  e52 am) rfl ?_
    refine hr_if_eq (x := _) hC 97 dX8_variable_32 (by decide) (fun c56 => ?_) (fun c56 => ?_)
    · rw [if_pos c56] at h
      refine hr_aload_n hC dX8_variable_97 rfl ?_
      refine hr_aload_n hC dX8_variable_98 rfl ?_
      refine hr_gO 6 hC F8_0 rfl dX8_variable_99 q661 ?_
      refine hr_iload hC dX8_variable_102 rfl ?_
      obtain ⟨r57, e58, h⟩ := hx_bind h
      refine hs_callV0 hC 6 [_] _ dX8_variable_104 q1602 q1603 q1604 q320 q1605 np_X6 rfl OB_6 pd_X6_next (Nat.le_of_ble_eq_true rfl) hd1 (okX6_next l E A (d - 1)  (by omega)  e58 am) rfl ?_
      refine hr_iload_n hC dX8_variable_107 rfl ?_
      refine hr_ldc hC dX8_variable_108 q1742 ?_
      obtain ⟨r61, e62, h⟩ := hx_bind h
      refine hs_callV0 hC 8 [_, _, _] _ dX8_variable_110 q1738 q1740 qs78 q322 q1741 np_X8 rfl OB_8 pd_X8_fill (Nat.le_of_ble_eq_true rfl) hd1 (okX8_fill l E A (d - 1) n k0 (by omega)  e62 am) rfl ?_
      refine hr_goto hC 177 dX8_variable_113 (by decide) ?_
      obtain rfl := Option.some.inj h
      exact hr_sub _ rfl (J13)
    · rw [if_neg c56] at h
      refine hr_aload_n hC dX8_variable_35 rfl ?_
      refine hr_gO 6 hC F8_0 rfl dX8_variable_36 q661 ?_
      refine hr_iload hC dX8_variable_39 rfl ?_
      obtain ⟨r65, e66, h⟩ := hx_bind h
      refine hs_callV0 hC 6 [_] _ dX8_variable_41 q1585 q1586 q1587 q320 q1588 np_X6 rfl OB_6 pd_X6_value (Nat.le_of_ble_eq_true rfl) hd1 (okX6_value l E A (d - 1)  (by omega)  e66 am) rfl ?_
      refine hr_istore_n hC dX8_variable_44 (by decide) ?_
      refine hr_iload_n hC dX8_variable_45 rfl ?_
      refine hr_iconst (v := 1) hC dX8_variable_46 rfl ?_
      obtain ⟨r71, e72, h⟩ := hx_bind h
      have J73 : hc_At hc_V0 E 6 X 79 [(0, .ref (E.2.1 8)), (1, .int x1), (2, .int x2), (3, .int r71.2), (4, .int r1)] [] r71.1 am [] := by
        refine hr_aload_n hC dX8_variable_79 rfl ?_
        refine hr_aload_n hC dX8_variable_80 rfl ?_
        refine hr_gO 6 hC F8_0 rfl dX8_variable_81 q661 ?_
        refine hr_iload hC dX8_variable_84 rfl ?_
        obtain ⟨r93, e94, h⟩ := hx_bind h
        refine hs_callV0 hC 6 [_] _ dX8_variable_86 q1602 q1603 q1604 q320 q1605 np_X6 rfl OB_6 pd_X6_next (Nat.le_of_ble_eq_true rfl) hd1 (okX6_next l E A (d - 1)  (by omega)  e94 am) rfl ?_
        refine hr_iload_n hC dX8_variable_89 rfl ?_
        refine hr_iload_n hC dX8_variable_90 rfl ?_
        obtain ⟨r97, e98, h⟩ := hx_bind h
        refine hs_callV0 hC 8 [_, _, _] _ dX8_variable_91 q1738 q1740 qs78 q322 q1741 np_X8 rfl OB_8 pd_X8_fill (Nat.le_of_ble_eq_true rfl) hd1 (okX8_fill l E A (d - 1) n k0 (by omega)  e98 am) rfl ?_
        refine hr_goto hC 177 dX8_variable_94 (by decide) ?_
        obtain rfl := Option.some.inj h
        exact hr_sub _ rfl (J13)
      clear h
      have h := e72
      refine hr_icmp_lt (x := _) hC 57 dX8_variable_47 (by decide) (fun c70 => ?_) (fun c70 => ?_)
      · rw [if_pos c70] at h
        refine hr_aload_n hC dX8_variable_57 rfl ?_
        refine hr_gO 9 hC F8_3 rfl dX8_variable_58 q664 ?_
        refine hr_bipush (v := 8) hC dX8_variable_61 rfl ?_
        refine hr_aload_n hC dX8_variable_63 rfl ?_
        refine hr_gO 6 hC F8_0 rfl dX8_variable_64 q661 ?_
        refine hr_iload hC dX8_variable_67 rfl ?_
        obtain ⟨r75, e76, h⟩ := hx_bind h
        refine hs_callV0 hC 6 [_] _ dX8_variable_69 q1593 q1594 q1595 q320 q1596 np_X6 rfl OB_6 pd_X6_place (Nat.le_of_ble_eq_true rfl) hd1 (okX6_place l E A (d - 1)  (by omega)  e76 am) rfl ?_
        obtain ⟨r79, e80, h⟩ := hx_bind h
        refine hs_callV0 hC 9 [_, _] _ dX8_variable_72 q1597 q1598 q1599 q323 q1600 np_X9 rfl OB_9 pd_X9_say (Nat.le_of_ble_eq_true rfl) hd1 (okX9_say l E A (d - 1)  (by omega)  e80 am) rfl ?_
        refine hr_sipush (v := 4096) hC dX8_variable_75 rfl ?_
        refine hr_istore_n hC dX8_variable_78 (by decide) ?_
        obtain rfl := Option.some.inj h
        exact hr_sub _ rfl (J73)
      · rw [if_neg c70] at h
        refine hr_iload_n hC dX8_variable_50 rfl ?_
        refine hr_sipush (v := 4096) hC dX8_variable_51 rfl ?_
        refine hr_icmp_le (x := _) hC 79 dX8_variable_54 (by decide) (fun c84 => ?_) (fun c84 => ?_)
        · rw [if_pos c84] at h
          obtain rfl := Option.some.inj h
          exact hr_sub _ rfl (J73)
        · rw [if_neg c84] at h
          refine hr_aload_n hC dX8_variable_57 rfl ?_
          refine hr_gO 9 hC F8_3 rfl dX8_variable_58 q664 ?_
          refine hr_bipush (v := 8) hC dX8_variable_61 rfl ?_
          refine hr_aload_n hC dX8_variable_63 rfl ?_
          refine hr_gO 6 hC F8_0 rfl dX8_variable_64 q661 ?_
          refine hr_iload hC dX8_variable_67 rfl ?_
          obtain ⟨r85, e86, h⟩ := hx_bind h
          refine hs_callV0 hC 6 [_] _ dX8_variable_69 q1593 q1594 q1595 q320 q1596 np_X6 rfl OB_6 pd_X6_place (Nat.le_of_ble_eq_true rfl) hd1 (okX6_place l E A (d - 1)  (by omega)  e86 am) rfl ?_
          obtain ⟨r89, e90, h⟩ := hx_bind h
          refine hs_callV0 hC 9 [_, _] _ dX8_variable_72 q1597 q1598 q1599 q323 q1600 np_X9 rfl OB_9 pd_X9_say (Nat.le_of_ble_eq_true rfl) hd1 (okX9_say l E A (d - 1)  (by omega)  e90 am) rfl ?_
          refine hr_sipush (v := 4096) hC dX8_variable_75 rfl ?_
          refine hr_istore_n hC dX8_variable_78 (by decide) ?_
          obtain rfl := Option.some.inj h
          exact hr_sub _ rfl (J73)
def lp_X8_variables_2_9 (n : Nat) (k0 : Nat) : Nat → Int32 → Int32 → hc_St → Option (hc_St)
  | 0, _, _, _ => none
  | m + 1, y1, y2, σ => if y2 = (-1) then (some (σ)) else (Option.bind (fm_X6_op y1 σ) fun r7 => Option.bind (fm_X8_variable n k0 y2 r7 σ) fun r11 => Option.bind (fm_X6_next y2 r11) fun r15 => lp_X8_variables_2_9 n k0 m y1 r15 r11)
/-- HomeCompiler$Checker.variables(I)V -/
def fm_X8_variables_2 (n : Nat) (k0 : Nat) (x1 : Int32) (σ : hc_St) : Option hc_St := Option.bind (fm_X6_first x1 σ) fun r1 => Option.bind (lp_X8_variables_2_9 n k0 n x1 r1 σ) fun r19 => some r19
set_option maxRecDepth 20000 in
set_option maxHeartbeats 4000000 in
theorem ll_X8_variables_2_9 {l : Launch} {E : hc_E} {A : Nat → Prop} {am : Nat → Nat → Nat} {d : Nat} {X : hc_X} (n : Nat) (k0 : Nat) (hD : 2 * k0 + 13 ≤ d) (hem : X.2.2.2.2.2.2.2.2.2.1.exceptionTable.isEmpty = true) {oc : hc_Oc} {σe : hc_St} (hC : hc_C hc_V0 E cX8_variables_2 3 RX8 none d oc σe (l, A, am, [10, 11]) X) : ∀ (m : Nat) (σ : hc_St) (y1 : Int32) (y2 : Int32) (rl : hc_St), lp_X8_variables_2_9 n k0 m y1 y2 σ = some rl → (∀ am1, hc_At hc_V0 E 3 X 39 [] [] rl am1 []) → ∀ am1, hc_At hc_V0 E 3 X 9 [(0, .ref (E.2.1 8)), (1, .int y1), (2, .int y2)] [] σ am1 [] := by
  have hd1 : 1 ≤ d := by omega
  have hd8 : 9 ≤ d := by omega
  have hd12 : 12 ≤ d := by omega
  intro m
  induction m with
  | zero =>
    intro σ y1 y2 rl h
    cases h
  | succ m ih =>
    intro σ y1 y2 rl h JX am1
    rw [lp_X8_variables_2_9] at h
    refine hr_iload_n hC dX8_variables_2_9 rfl ?_
    refine hr_iconst (v := (-1)) hC dX8_variables_2_10 rfl ?_
    refine hr_icmp_eq (x := _) hC 39 dX8_variables_2_11 (by decide) (fun c6 => ?_) (fun c6 => ?_)
    · rw [if_pos c6] at h
      obtain rfl := Option.some.inj h
      exact hr_sub _ rfl (JX am1)
    · rw [if_neg c6] at h
      refine hr_aload_n hC dX8_variables_2_14 rfl ?_
      refine hr_iload_n hC dX8_variables_2_15 rfl ?_
      refine hr_aload_n hC dX8_variables_2_16 rfl ?_
      refine hr_gO 6 hC F8_0 rfl dX8_variables_2_17 q661 ?_
      refine hr_iload_n hC dX8_variables_2_20 rfl ?_
      obtain ⟨r7, e8, h⟩ := hx_bind h
      refine hs_callV0 hC 6 [_] _ dX8_variables_2_21 q1638 q1639 q1640 q320 q1641 np_X6 rfl OB_6 pd_X6_op (Nat.le_of_ble_eq_true rfl) hd1 (okX6_op l E A (d - 1)  (by omega)  e8 am1) rfl ?_
      obtain ⟨r11, e12, h⟩ := hx_bind h
      refine hs_callV hC 8 [_, _] _ dX8_variables_2_24 q1734 q1736 qs77 q322 q1737 np_X8 rfl OB_8 pd_X8_variable (Nat.le_of_ble_eq_true rfl) hd1 (okX8_variable l E A (d - 1) n k0 (by omega)  e12 am1) (hc_rb rfl) rfl (fun am13 ha14 => ?_)
      refine hr_aload_n hC dX8_variables_2_27 rfl ?_
      refine hr_gO 6 hC F8_0 rfl dX8_variables_2_28 q661 ?_
      refine hr_iload_n hC dX8_variables_2_31 rfl ?_
      obtain ⟨r15, e16, h⟩ := hx_bind h
      refine hs_callV0 hC 6 [_] _ dX8_variables_2_32 q1602 q1603 q1604 q320 q1605 np_X6 rfl OB_6 pd_X6_next (Nat.le_of_ble_eq_true rfl) hd1 (okX6_next l E A (d - 1)  (by omega)  e16 am13) rfl ?_
      refine hr_istore_n hC dX8_variables_2_35 (by decide) ?_
      refine hr_goto hC 9 dX8_variables_2_36 (by decide) ?_
      exact hr_sub _ rfl (ih _ _ _ _ h JX am13)
set_option maxRecDepth 20000 in
set_option maxHeartbeats 4000000 in
theorem okX8_variables_2 (l : Launch) (E : hc_E) (A : Nat → Prop) (d : Nat) (n : Nat) (k0 : Nat) (hD : 2 * k0 + 13 ≤ d) {x1 : Int32} {σ : hc_St} {r : hc_St} (h : fm_X8_variables_2 n k0 x1 σ = some r) (am : Nat → Nat → Nat) : hc_M l hc_V0 yX8_variables_2 (ws_ yX8_variables_2 cX8_variables_2 3 none) d E A [.ref (E.2.1 8), .int x1] am [10, 11] σ (.inl none) r := by
  have hd1 : 1 ≤ d := by omega
  have hd8 : 9 ≤ d := by omega
  have hd12 : 12 ≤ d := by omega
  refine hc_enter2 (own := RX8) [(0, .ref (E.2.1 8)), (1, .int x1)] pl_X8 rfl hc_V0_st hc_G0_nd rfl (Nat.le_of_ble_eq_true rfl) (fun X hC hem => ?_)
  unfold fm_X8_variables_2 at h
  refine hr_aload_n hC dX8_variables_2_0 rfl ?_
  refine hr_gO 6 hC F8_0 rfl dX8_variables_2_1 q661 ?_
  refine hr_iload_n hC dX8_variables_2_4 rfl ?_
  obtain ⟨r1, e2, h⟩ := hx_bind h
  refine hs_callV0 hC 6 [_] _ dX8_variables_2_5 q1575 q1576 q1577 q320 q1578 np_X6 rfl OB_6 pd_X6_first (Nat.le_of_ble_eq_true rfl) hd1 (okX6_first l E A (d - 1)  (by omega)  e2 am) rfl ?_
  refine hr_istore_n hC dX8_variables_2_8 (by decide) ?_
  obtain ⟨r19, e20, h⟩ := hx_bind h
  refine hr_sub _ rfl (ll_X8_variables_2_9 n k0 hD hem hC n _ _ _ _ e20 (fun am23 => ?_) am)
  obtain rfl := Option.some.inj h
  exact hr_vret hC dX8_variables_2_39
/-- HomeCompiler$Symbols.open()V -/
def fm_X10_open   (σ : hc_St) : Option hc_St := hl (pI σ 10 7 ((((gI σ 10 7)) + 1))) fun σ1 => hk (inb ((gI σ1 10 7)) (gL σ1 10 6)) <| hl (pC σ1 10 6 ((gI σ1 10 7)) ((gI σ1 10 4))) fun σ3 => some σ3
set_option maxRecDepth 20000 in
set_option maxHeartbeats 4000000 in
theorem okX10_open (l : Launch) (E : hc_E) (A : Nat → Prop) (d : Nat)  (hD : 1 ≤ d)  {σ : hc_St} {r : hc_St} (h : fm_X10_open   σ = some r) (am : Nat → Nat → Nat) : hc_M l hc_V0 yX10_open (ws_ yX10_open cX10_open 1 none) d E A [.ref (E.2.1 10)] am [] σ (.inl none) r := by
  have hd1 : 1 ≤ d := by omega
  refine hc_enter2 (own := RX10) [(0, .ref (E.2.1 10))] pl_X10 rfl hc_V0_st hc_G0_nd rfl (Nat.le_of_ble_eq_true rfl) (fun X hC hem => ?_)
  unfold fm_X10_open at h
  refine hr_aload_n hC dX10_open_0 rfl ?_
  refine hr_dup hC dX10_open_1 rfl ?_
  refine hr_gI hC F10_7 dX10_open_2 q616 ?_
  refine hr_iconst (v := 1) hC dX10_open_5 rfl ?_
  refine hr_iadd hC dX10_open_6 ?_
  obtain ⟨σ1, hσ1, h⟩ := hl_ok h
  refine hr_pI hC F10_7 PX10_7 dX10_open_7 q616 ?_
  rw [← hσ1]
  refine hr_aload_n hC dX10_open_10 rfl ?_
  refine hr_gA hC F10_6 rfl dX10_open_11 q615 ?_
  refine hr_aload_n hC dX10_open_14 rfl ?_
  refine hr_gI hC F10_7 dX10_open_15 q616 ?_
  refine hr_aload_n hC dX10_open_18 rfl ?_
  refine hr_gI hC F10_4 dX10_open_19 q613 ?_
  obtain ⟨c2, h⟩ := hk_ok h
  obtain ⟨σ3, hσ3, h⟩ := hl_ok h
  refine hs_iast hC A10_6 c2 dX10_open_22 ?_
  rw [← hσ3]
  obtain rfl := Option.some.inj h
  exact hr_vret hC dX10_open_23
def lp_X10_close_0 (n : Nat) : Nat → hc_St → Option (hc_St)
  | 0, _ => none
  | m + 1, σ => hk (inb ((gI σ 10 7)) (gL σ 10 6)) <| if (gI σ 10 4) ≤ (gC σ 10 6 ((gI σ 10 7))) then (some (σ)) else (hl (pI σ 10 4 ((((gI σ 10 4)) - 1))) fun σ4 => hk (inb ((gI σ4 10 4)) (gL σ4 10 0)) <| hk (inb ((gI σ4 10 4)) (gL σ4 10 3)) <| hk (inb ((gC σ4 10 0 ((gI σ4 10 4)))) (gL σ4 10 5)) <| hl (pC σ4 10 5 ((gC σ4 10 0 ((gI σ4 10 4)))) ((gC σ4 10 3 ((gI σ4 10 4))))) fun σ8 => lp_X10_close_0 n m  σ8)
/-- HomeCompiler$Symbols.close()V -/
def fm_X10_close (n : Nat)  (σ : hc_St) : Option hc_St := Option.bind (lp_X10_close_0 n n  σ) fun r9 => hl (pI r9 10 7 ((((gI r9 10 7)) - 1))) fun σ14 => some σ14
set_option maxRecDepth 20000 in
set_option maxHeartbeats 4000000 in
theorem ll_X10_close_0 {l : Launch} {E : hc_E} {A : Nat → Prop} {am : Nat → Nat → Nat} {d : Nat} {X : hc_X} (n : Nat) (hD : 1 ≤ d) (hem : X.2.2.2.2.2.2.2.2.2.1.exceptionTable.isEmpty = true) {oc : hc_Oc} {σe : hc_St} (hC : hc_C hc_V0 E cX10_close 1 RX10 none d oc σe (l, A, am, []) X) : ∀ (m : Nat) (σ : hc_St)  (rl : hc_St) (am1 : Nat → Nat → Nat), lp_X10_close_0 n m  σ = some rl → (hc_At hc_V0 E 1 X 52 [(0, .ref (E.2.1 10))] [] rl am1 []) → hc_At hc_V0 E 1 X 0 [(0, .ref (E.2.1 10))] [] σ am1 [] := by
  have hd1 : 1 ≤ d := by omega
  intro m
  induction m with
  | zero =>
    intro σ  rl am1 h
    cases h
  | succ m ih =>
    intro σ  rl am1 h JX
    rw [lp_X10_close_0] at h
    refine hr_aload_n hC dX10_close_0 rfl ?_
    refine hr_gI hC F10_4 dX10_close_1 q613 ?_
    refine hr_aload_n hC dX10_close_4 rfl ?_
    refine hr_gA hC F10_6 rfl dX10_close_5 q615 ?_
    refine hr_aload_n hC dX10_close_8 rfl ?_
    refine hr_gI hC F10_7 dX10_close_9 q616 ?_
    obtain ⟨c1, h⟩ := hk_ok h
    refine hs_iald hC A10_6 c1 dX10_close_12 ?_
    refine hr_icmp_le (x := _) hC 52 dX10_close_13 (by decide) (fun c3 => ?_) (fun c3 => ?_)
    · rw [if_pos c3] at h
      obtain rfl := Option.some.inj h
      exact hr_sub _ rfl (JX)
    · rw [if_neg c3] at h
      refine hr_aload_n hC dX10_close_16 rfl ?_
      refine hr_dup hC dX10_close_17 rfl ?_
      refine hr_gI hC F10_4 dX10_close_18 q613 ?_
      refine hr_iconst (v := 1) hC dX10_close_21 rfl ?_
      refine hr_isub hC dX10_close_22 ?_
      obtain ⟨σ4, hσ4, h⟩ := hl_ok h
      refine hr_pI hC F10_4 PX10_4 dX10_close_23 q613 ?_
      rw [← hσ4]
      refine hr_aload_n hC dX10_close_26 rfl ?_
      refine hr_gA hC F10_5 rfl dX10_close_27 q614 ?_
      refine hr_aload_n hC dX10_close_30 rfl ?_
      refine hr_gA hC F10_0 rfl dX10_close_31 q609 ?_
      refine hr_aload_n hC dX10_close_34 rfl ?_
      refine hr_gI hC F10_4 dX10_close_35 q613 ?_
      obtain ⟨c5, h⟩ := hk_ok h
      refine hs_iald hC A10_0 c5 dX10_close_38 ?_
      refine hr_aload_n hC dX10_close_39 rfl ?_
      refine hr_gA hC F10_3 rfl dX10_close_40 q612 ?_
      refine hr_aload_n hC dX10_close_43 rfl ?_
      refine hr_gI hC F10_4 dX10_close_44 q613 ?_
      obtain ⟨c6, h⟩ := hk_ok h
      refine hs_iald hC A10_3 c6 dX10_close_47 ?_
      obtain ⟨c7, h⟩ := hk_ok h
      obtain ⟨σ8, hσ8, h⟩ := hl_ok h
      refine hs_iast hC A10_5 c7 dX10_close_48 ?_
      rw [← hσ8]
      refine hr_goto hC 0 dX10_close_49 (by decide) ?_
      exact hr_sub _ rfl (ih _  _ am1 h JX)
set_option maxRecDepth 20000 in
set_option maxHeartbeats 4000000 in
theorem okX10_close (l : Launch) (E : hc_E) (A : Nat → Prop) (d : Nat) (n : Nat) (hD : 1 ≤ d)  {σ : hc_St} {r : hc_St} (h : fm_X10_close n  σ = some r) (am : Nat → Nat → Nat) : hc_M l hc_V0 yX10_close (ws_ yX10_close cX10_close 1 none) d E A [.ref (E.2.1 10)] am [] σ (.inl none) r := by
  have hd1 : 1 ≤ d := by omega
  refine hc_enter2 (own := RX10) [(0, .ref (E.2.1 10))] pl_X10 rfl hc_V0_st hc_G0_nd rfl (Nat.le_of_ble_eq_true rfl) (fun X hC hem => ?_)
  unfold fm_X10_close at h
  obtain ⟨r9, e10, h⟩ := hx_bind h
  refine hr_sub _ rfl (ll_X10_close_0 n hD hem hC n _  _ am e10 ?_)
  refine hr_aload_n hC dX10_close_52 rfl ?_
  refine hr_dup hC dX10_close_53 rfl ?_
  refine hr_gI hC F10_7 dX10_close_54 q616 ?_
  refine hr_iconst (v := 1) hC dX10_close_57 rfl ?_
  refine hr_isub hC dX10_close_58 ?_
  obtain ⟨σ14, hσ14, h⟩ := hl_ok h
  refine hr_pI hC F10_7 PX10_7 dX10_close_59 q616 ?_
  rw [← hσ14]
  obtain rfl := Option.some.inj h
  exact hr_vret hC dX10_close_62
/-- HomeCompiler$Checker.anything(I)V -/
def fm_X8_anything (n : Nat) (k0 : Nat) (x1 : Int32) (σ : hc_St) : Option hc_St := Option.bind (fm_X8_typeOf n k0 x1 σ) fun r1 => Option.bind (α := hc_St) (if r1.1 = 1 then (Option.bind (fm_X6_place x1 r1.2) fun r11 => Option.bind (fm_X9_say 3 r11 r1.2) fun r15 => some (r15)) else (if r1.1 = 2 then (Option.bind (fm_X6_place x1 r1.2) fun r21 => Option.bind (fm_X9_say 3 r21 r1.2) fun r25 => some (r25)) else (some (r1.2)))) fun r7 => some r7
set_option maxRecDepth 20000 in
set_option maxHeartbeats 4000000 in
theorem okX8_anything (l : Launch) (E : hc_E) (A : Nat → Prop) (d : Nat) (n : Nat) (k0 : Nat) (hD : 2 * k0 + 10 ≤ d) {x1 : Int32} {σ : hc_St} {r : hc_St} (h : fm_X8_anything n k0 x1 σ = some r) (am : Nat → Nat → Nat) : hc_M l hc_V0 yX8_anything (ws_ yX8_anything cX8_anything 3 none) d E A [.ref (E.2.1 8), .int x1] am [] σ (.inl none) r := by
  have hd1 : 1 ≤ d := by omega
  have hd8 : 9 ≤ d := by omega
  refine hc_enter2 (own := RX8) [(0, .ref (E.2.1 8)), (1, .int x1)] pl_X8 rfl hc_V0_st hc_G0_nd rfl (Nat.le_of_ble_eq_true rfl) (fun X hC hem => ?_)
  unfold fm_X8_anything at h
  refine hr_aload_n hC dX8_anything_0 rfl ?_
  refine hr_iload_n hC dX8_anything_1 rfl ?_
  obtain ⟨r1, e2, h⟩ := hx_bind h
  refine hs_callV0 hC 8 [_] _ dX8_anything_2 q1622 q1624 qs61 q322 q1625 np_X8 rfl OB_8 pd_X8_typeOf (Nat.le_of_ble_eq_true rfl) hd1 (okX8_typeOf l E A (d - 1) n k0 (by omega)  e2 am) rfl ?_
  refine hr_istore_n hC dX8_anything_5 (by decide) ?_
  refine hr_iload_n hC dX8_anything_6 rfl ?_
  refine hr_iconst (v := 1) hC dX8_anything_7 rfl ?_
  obtain ⟨r7, e8, h⟩ := hx_bind h
  have J9 : hc_At hc_V0 E 3 X 32 [] [] r7 am [] := by
    obtain rfl := Option.some.inj h
    exact hr_vret hC dX8_anything_32
  clear h
  have h := e8
  refine hr_icmp_eq (x := _) hC 16 dX8_anything_8 (by decide) (fun c6 => ?_) (fun c6 => ?_)
  · rw [if_pos c6] at h
    refine hr_aload_n hC dX8_anything_16 rfl ?_
    refine hr_gO 9 hC F8_3 rfl dX8_anything_17 q664 ?_
    refine hr_iconst (v := 3) hC dX8_anything_20 rfl ?_
    refine hr_aload_n hC dX8_anything_21 rfl ?_
    refine hr_gO 6 hC F8_0 rfl dX8_anything_22 q661 ?_
    refine hr_iload_n hC dX8_anything_25 rfl ?_
    obtain ⟨r11, e12, h⟩ := hx_bind h
    refine hs_callV0 hC 6 [_] _ dX8_anything_26 q1593 q1594 q1595 q320 q1596 np_X6 rfl OB_6 pd_X6_place (Nat.le_of_ble_eq_true rfl) hd1 (okX6_place l E A (d - 1)  (by omega)  e12 am) rfl ?_
    obtain ⟨r15, e16, h⟩ := hx_bind h
    refine hs_callV0 hC 9 [_, _] _ dX8_anything_29 q1597 q1598 q1599 q323 q1600 np_X9 rfl OB_9 pd_X9_say (Nat.le_of_ble_eq_true rfl) hd1 (okX9_say l E A (d - 1)  (by omega)  e16 am) rfl ?_
    obtain rfl := Option.some.inj h
    exact hr_sub _ rfl (J9)
  · rw [if_neg c6] at h
    refine hr_iload_n hC dX8_anything_11 rfl ?_
    refine hr_iconst (v := 2) hC dX8_anything_12 rfl ?_
    refine hr_icmp_ne (x := _) hC 32 dX8_anything_13 (by decide) (fun c20 => ?_) (fun c20 => ?_)
    · rw [if_neg c20] at h
      obtain rfl := Option.some.inj h
      exact hr_sub _ rfl (J9)
    · rw [if_pos c20] at h
      refine hr_aload_n hC dX8_anything_16 rfl ?_
      refine hr_gO 9 hC F8_3 rfl dX8_anything_17 q664 ?_
      refine hr_iconst (v := 3) hC dX8_anything_20 rfl ?_
      refine hr_aload_n hC dX8_anything_21 rfl ?_
      refine hr_gO 6 hC F8_0 rfl dX8_anything_22 q661 ?_
      refine hr_iload_n hC dX8_anything_25 rfl ?_
      obtain ⟨r21, e22, h⟩ := hx_bind h
      refine hs_callV0 hC 6 [_] _ dX8_anything_26 q1593 q1594 q1595 q320 q1596 np_X6 rfl OB_6 pd_X6_place (Nat.le_of_ble_eq_true rfl) hd1 (okX6_place l E A (d - 1)  (by omega)  e22 am) rfl ?_
      obtain ⟨r25, e26, h⟩ := hx_bind h
      refine hs_callV0 hC 9 [_, _] _ dX8_anything_29 q1597 q1598 q1599 q323 q1600 np_X9 rfl OB_9 pd_X9_say (Nat.le_of_ble_eq_true rfl) hd1 (okX9_say l E A (d - 1)  (by omega)  e26 am) rfl ?_
      obtain rfl := Option.some.inj h
      exact hr_sub _ rfl (J9)
def lp_X8_isTwice_25 (n : Nat) : Nat → Int32 → Int32 → Int32 → Int32 → hc_St → Option (Int32)
  | 0, _, _, _, _, _ => none
  | m + 1, y2, y3, y4, y5, σ => if y5 = y2 then (some (y3)) else (if y3 = 0 then (Option.bind (fm_X6_kind y5 σ) fun r12 => Option.bind (fm_X6_kind y2 σ) fun r16 => Option.bind (α := Int32) (if r12 = r16 then (Option.bind (fm_X6_extra y5 σ) fun r26 => if r26 = 1 then (some (1)) else (some (0))) else (some (0))) fun r22 => Option.bind (α := Int32) (if r22 = 0 then (some (0)) else (if y4 = 0 then (some (1)) else (Option.bind (fm_X6_first y5 σ) fun r40 => Option.bind (fm_X6_value r40 σ) fun r44 => Option.bind (fm_X6_first y2 σ) fun r48 => Option.bind (fm_X6_value r48 σ) fun r52 => if r44 = r52 then (some (1)) else (some (0))))) fun r34 => Option.bind (fm_X6_next y5 σ) fun r58 => lp_X8_isTwice_25 n m y2 r34 y4 r58 σ) else (some (y3)))
/-- HomeCompiler$Checker.isTwice(II)Z -/
def fm_X8_isTwice (n : Nat) (x1 : Int32) (x2 : Int32) (σ : hc_St) : Option Int32 := Option.bind (fm_X6_kind x2 σ) fun r1 => hl (α := Int32) ((if r1 = 18 then 1 else 0)) fun v7 => Option.bind (lp_X8_isTwice_25 n n x2 0 v7 x1 σ) fun r62 => hk (hb01 r62) <| some r62
set_option maxRecDepth 20000 in
set_option maxHeartbeats 4000000 in
theorem ll_X8_isTwice_25 {l : Launch} {E : hc_E} {A : Nat → Prop} {am : Nat → Nat → Nat} {d : Nat} {X : hc_X} (n : Nat) (hD : 2 ≤ d) (hem : X.2.2.2.2.2.2.2.2.2.1.exceptionTable.isEmpty = true) {oc : hc_Oc} {σe : hc_St} (hC : hc_C hc_V0 E cX8_isTwice 7 RX8 (some .boolean) d oc σe (l, A, am, []) X) : ∀ (m : Nat) (σ : hc_St) (y2 : Int32) (y3 : Int32) (y4 : Int32) (y5 : Int32) (rl : Int32) (am1 : Nat → Nat → Nat), lp_X8_isTwice_25 n m y2 y3 y4 y5 σ = some rl → (hc_At hc_V0 E 7 X 139 [(3, .int rl)] [] σ am1 []) → hc_At hc_V0 E 7 X 25 [(0, .ref (E.2.1 8)), (2, .int y2), (3, .int y3), (4, .int y4), (5, .int y5)] [] σ am1 [] := by
  have hd1 : 1 ≤ d := by omega
  intro m
  induction m with
  | zero =>
    intro σ y2 y3 y4 y5 rl am1 h
    cases h
  | succ m ih =>
    intro σ y2 y3 y4 y5 rl am1 h JX
    rw [lp_X8_isTwice_25] at h
    refine hr_iload hC dX8_isTwice_25 rfl ?_
    refine hr_iload_n hC dX8_isTwice_27 rfl ?_
    refine hr_icmp_eq (x := _) hC 139 dX8_isTwice_28 (by decide) (fun c9 => ?_) (fun c9 => ?_)
    · rw [if_pos c9] at h
      obtain rfl := Option.some.inj h
      exact hr_sub _ rfl (JX)
    · rw [if_neg c9] at h
      refine hr_iload_n hC dX8_isTwice_31 rfl ?_
      refine hr_if_ne (x := _) hC 139 dX8_isTwice_32 (by decide) (fun c11 => ?_) (fun c11 => ?_)
      · rw [if_neg c11] at h
        obtain rfl := Option.some.inj h
        exact hr_sub _ rfl (JX)
      · rw [if_pos c11] at h
        refine hr_aload_n hC dX8_isTwice_35 rfl ?_
        refine hr_gO 6 hC F8_0 rfl dX8_isTwice_36 q661 ?_
        refine hr_iload hC dX8_isTwice_39 rfl ?_
        obtain ⟨r12, e13, h⟩ := hx_bind h
        refine hs_callV0 hC 6 [_] _ dX8_isTwice_41 q1579 q1369 q1370 q320 q1371 np_X6 rfl OB_6 pd_X6_kind (Nat.le_of_ble_eq_true rfl) hd1 (okX6_kind l E A (d - 1)  (by omega)  e13 am1) rfl ?_
        refine hr_aload_n hC dX8_isTwice_44 rfl ?_
        refine hr_gO 6 hC F8_0 rfl dX8_isTwice_45 q661 ?_
        refine hr_iload_n hC dX8_isTwice_48 rfl ?_
        obtain ⟨r16, e17, h⟩ := hx_bind h
        refine hs_callV0 hC 6 [_] _ dX8_isTwice_49 q1579 q1369 q1370 q320 q1371 np_X6 rfl OB_6 pd_X6_kind (Nat.le_of_ble_eq_true rfl) hd1 (okX6_kind l E A (d - 1)  (by omega)  e17 am1) rfl ?_
        obtain ⟨r22, e23, h⟩ := hx_bind h
        have J24 : hc_At hc_V0 E 7 X 73 [(0, .ref (E.2.1 8)), (2, .int y2), (4, .int y4), (5, .int y5)] [.int r22] σ am1 [] := by
          refine hr_istore hC dX8_isTwice_73 (by decide) ?_
          refine hr_iload hC dX8_isTwice_75 rfl ?_
          obtain ⟨r34, e35, h⟩ := hx_bind h
          have J36 : hc_At hc_V0 E 7 X 124 [(0, .ref (E.2.1 8)), (2, .int y2), (4, .int y4), (5, .int y5)] [.int r34] σ am1 [] := by
            refine hr_istore_n hC dX8_isTwice_124 (by decide) ?_
            refine hr_aload_n hC dX8_isTwice_125 rfl ?_
            refine hr_gO 6 hC F8_0 rfl dX8_isTwice_126 q661 ?_
            refine hr_iload hC dX8_isTwice_129 rfl ?_
            obtain ⟨r58, e59, h⟩ := hx_bind h
            refine hs_callV0 hC 6 [_] _ dX8_isTwice_131 q1602 q1603 q1604 q320 q1605 np_X6 rfl OB_6 pd_X6_next (Nat.le_of_ble_eq_true rfl) hd1 (okX6_next l E A (d - 1)  (by omega)  e59 am1) rfl ?_
            refine hr_istore hC dX8_isTwice_134 (by decide) ?_
            refine hr_goto hC 25 dX8_isTwice_136 (by decide) ?_
            exact hr_sub _ rfl (ih _ _ _ _ _ _ am1 h JX)
          clear h
          have h := e35
          refine hr_if_eq (x := _) hC 123 dX8_isTwice_77 (by decide) (fun c33 => ?_) (fun c33 => ?_)
          · rw [if_pos c33] at h
            refine hr_iconst (v := 0) hC dX8_isTwice_123 rfl ?_
            obtain rfl := Option.some.inj h
            exact hr_sub _ rfl (J36)
          · rw [if_neg c33] at h
            refine hr_iload hC dX8_isTwice_80 rfl ?_
            refine hr_if_eq (x := _) hC 119 dX8_isTwice_82 (by decide) (fun c39 => ?_) (fun c39 => ?_)
            · rw [if_pos c39] at h
              refine hr_iconst (v := 1) hC dX8_isTwice_119 rfl ?_
              refine hr_goto hC 124 dX8_isTwice_120 (by decide) ?_
              obtain rfl := Option.some.inj h
              exact hr_sub _ rfl (J36)
            · rw [if_neg c39] at h
              refine hr_aload_n hC dX8_isTwice_85 rfl ?_
              refine hr_gO 6 hC F8_0 rfl dX8_isTwice_86 q661 ?_
              refine hr_aload_n hC dX8_isTwice_89 rfl ?_
              refine hr_gO 6 hC F8_0 rfl dX8_isTwice_90 q661 ?_
              refine hr_iload hC dX8_isTwice_93 rfl ?_
              obtain ⟨r40, e41, h⟩ := hx_bind h
              refine hs_callV0 hC 6 [_] _ dX8_isTwice_95 q1575 q1576 q1577 q320 q1578 np_X6 rfl OB_6 pd_X6_first (Nat.le_of_ble_eq_true rfl) hd1 (okX6_first l E A (d - 1)  (by omega)  e41 am1) rfl ?_
              obtain ⟨r44, e45, h⟩ := hx_bind h
              refine hs_callV0 hC 6 [_] _ dX8_isTwice_98 q1585 q1586 q1587 q320 q1588 np_X6 rfl OB_6 pd_X6_value (Nat.le_of_ble_eq_true rfl) hd1 (okX6_value l E A (d - 1)  (by omega)  e45 am1) rfl ?_
              refine hr_aload_n hC dX8_isTwice_101 rfl ?_
              refine hr_gO 6 hC F8_0 rfl dX8_isTwice_102 q661 ?_
              refine hr_aload_n hC dX8_isTwice_105 rfl ?_
              refine hr_gO 6 hC F8_0 rfl dX8_isTwice_106 q661 ?_
              refine hr_iload_n hC dX8_isTwice_109 rfl ?_
              obtain ⟨r48, e49, h⟩ := hx_bind h
              refine hs_callV0 hC 6 [_] _ dX8_isTwice_110 q1575 q1576 q1577 q320 q1578 np_X6 rfl OB_6 pd_X6_first (Nat.le_of_ble_eq_true rfl) hd1 (okX6_first l E A (d - 1)  (by omega)  e49 am1) rfl ?_
              obtain ⟨r52, e53, h⟩ := hx_bind h
              refine hs_callV0 hC 6 [_] _ dX8_isTwice_113 q1585 q1586 q1587 q320 q1588 np_X6 rfl OB_6 pd_X6_value (Nat.le_of_ble_eq_true rfl) hd1 (okX6_value l E A (d - 1)  (by omega)  e53 am1) rfl ?_
              refine hr_icmp_ne (x := _) hC 123 dX8_isTwice_116 (by decide) (fun c57 => ?_) (fun c57 => ?_)
              · rw [if_neg c57] at h
                refine hr_iconst (v := 0) hC dX8_isTwice_123 rfl ?_
                obtain rfl := Option.some.inj h
                exact hr_sub _ rfl (J36)
              · rw [if_pos c57] at h
                refine hr_iconst (v := 1) hC dX8_isTwice_119 rfl ?_
                refine hr_goto hC 124 dX8_isTwice_120 (by decide) ?_
                obtain rfl := Option.some.inj h
                exact hr_sub _ rfl (J36)
        clear h
        have h := e23
        refine hr_icmp_ne (x := _) hC 72 dX8_isTwice_52 (by decide) (fun c21 => ?_) (fun c21 => ?_)
        · rw [if_neg c21] at h
          refine hr_iconst (v := 0) hC dX8_isTwice_72 rfl ?_
          obtain rfl := Option.some.inj h
          exact hr_sub _ rfl (J24)
        · rw [if_pos c21] at h
          refine hr_aload_n hC dX8_isTwice_55 rfl ?_
          refine hr_gO 6 hC F8_0 rfl dX8_isTwice_56 q661 ?_
          refine hr_iload hC dX8_isTwice_59 rfl ?_
          obtain ⟨r26, e27, h⟩ := hx_bind h
          refine hs_callV0 hC 6 [_] _ dX8_isTwice_61 q1686 q1687 q1688 q320 q1689 np_X6 rfl OB_6 pd_X6_extra (Nat.le_of_ble_eq_true rfl) hd1 (okX6_extra l E A (d - 1)  (by omega)  e27 am1) rfl ?_
          refine hr_iconst (v := 1) hC dX8_isTwice_64 rfl ?_
          refine hr_icmp_ne (x := _) hC 72 dX8_isTwice_65 (by decide) (fun c31 => ?_) (fun c31 => ?_)
          · rw [if_neg c31] at h
            refine hr_iconst (v := 0) hC dX8_isTwice_72 rfl ?_
            obtain rfl := Option.some.inj h
            exact hr_sub _ rfl (J24)
          · rw [if_pos c31] at h
            refine hr_iconst (v := 1) hC dX8_isTwice_68 rfl ?_
            refine hr_goto hC 73 dX8_isTwice_69 (by decide) ?_
            obtain rfl := Option.some.inj h
            exact hr_sub _ rfl (J24)
set_option maxRecDepth 20000 in
set_option maxHeartbeats 4000000 in
theorem okX8_isTwice (l : Launch) (E : hc_E) (A : Nat → Prop) (d : Nat) (n : Nat) (hD : 2 ≤ d) {x1 : Int32} {x2 : Int32} {σ : hc_St} {r : Int32} (h : fm_X8_isTwice n x1 x2 σ = some r) (am : Nat → Nat → Nat) : hc_M l hc_V0 yX8_isTwice (ws_ yX8_isTwice cX8_isTwice 7 (some .boolean)) d E A [.ref (E.2.1 8), .int x1, .int x2] am [] σ (.inl (some (.int r))) σ := by
  have hd1 : 1 ≤ d := by omega
  refine hc_enter2 (own := RX8) [(0, .ref (E.2.1 8)), (1, .int x1), (2, .int x2)] pl_X8 rfl hc_V0_st hc_G0_nd rfl (Nat.le_of_ble_eq_true rfl) (fun X hC hem => ?_)
  unfold fm_X8_isTwice at h
  refine hr_iconst (v := 0) hC dX8_isTwice_0 rfl ?_
  refine hr_istore_n hC dX8_isTwice_1 (by decide) ?_
  refine hr_aload_n hC dX8_isTwice_2 rfl ?_
  refine hr_gO 6 hC F8_0 rfl dX8_isTwice_3 q661 ?_
  refine hr_iload_n hC dX8_isTwice_6 rfl ?_
  obtain ⟨r1, e2, h⟩ := hx_bind h
  refine hs_callV0 hC 6 [_] _ dX8_isTwice_7 q1579 q1369 q1370 q320 q1371 np_X6 rfl OB_6 pd_X6_kind (Nat.le_of_ble_eq_true rfl) hd1 (okX6_kind l E A (d - 1)  (by omega)  e2 am) rfl ?_
  refine hr_bipush (v := 18) hC dX8_isTwice_10 rfl ?_
  obtain ⟨v7, hv7, h⟩ := hl_ok h
  have J68 : ∀ w69 : Int32, (if r1 = 18 then 1 else 0) = w69 → hc_At hc_V0 E 7 X 20 [(0, .ref (E.2.1 8)), (1, .int x1), (2, .int x2), (3, .int 0)] [.int w69] σ am [] := by
    intro w69 hw69
    obtain rfl := hv7.trans hw69
    refine hr_istore hC dX8_isTwice_20 (by decide) ?_
    refine hr_iload_n hC dX8_isTwice_22 rfl ?_
    refine hr_istore hC dX8_isTwice_23 (by decide) ?_
    obtain ⟨r62, e63, h⟩ := hx_bind h
    refine hr_sub _ rfl (ll_X8_isTwice_25 n hD hem hC n _ _ _ _ _ _ am e63 ?_)
    refine hr_iload_n hC dX8_isTwice_139 rfl ?_
    obtain ⟨c67, h⟩ := hk_ok h
    obtain rfl := Option.some.inj h
    exact hr_zret hC (hb01_n c67) dX8_isTwice_140
  refine hr_icmp_ne (x := _) hC 19 dX8_isTwice_12 (by decide) (fun c70 => ?_) (fun c70 => ?_)
  · refine hr_iconst (v := 0) hC dX8_isTwice_19 rfl ?_
    exact hr_sub _ rfl (J68 _ (by first | (rw [if_neg c70]; done) | (simp only [if_neg c70]; done) | rfl))
  · refine hr_iconst (v := 1) hC dX8_isTwice_15 rfl ?_
    refine hr_goto hC 20 dX8_isTwice_16 (by decide) ?_
    exact hr_sub _ rfl (J68 _ (by first | (rw [if_pos c70]; done) | (simp only [if_pos c70]; done) | rfl))
/-- HomeCompiler$Checker.leaving(I)V -/
def fm_X8_leaving (n : Nat) (k0 : Nat) (x1 : Int32) (σ : hc_St) : Option hc_St := Option.bind (fm_X6_kind x1 σ) fun r1 => Option.bind (α := hc_St) (if r1 = 20 then (if (gI σ 8 13) = 0 then (Option.bind (fm_X6_place x1 σ) fun r25 => Option.bind (fm_X9_say 9 r25 σ) fun r29 => some (r29)) else (if r1 = 21 then (if (gI σ 8 12) = 0 then (Option.bind (fm_X6_place x1 σ) fun r37 => Option.bind (fm_X9_say 9 r37 σ) fun r41 => some (r41)) else (some (σ))) else (some (σ)))) else (if r1 = 21 then (if (gI σ 8 12) = 0 then (Option.bind (fm_X6_place x1 σ) fun r15 => Option.bind (fm_X9_say 9 r15 σ) fun r19 => some (r19)) else (some (σ))) else (some (σ)))) fun r7 => Option.bind (α := hc_St) (if r1 = 22 then (hk (inb ((gI r7 8 11)) (gL r7 8 7)) <| Option.bind (fm_X6_op ((gC r7 8 7 ((gI r7 8 11)))) r7) fun r52 => hl (α := Int32) ((if r52 = 2 then 1 else 0)) fun v58 => Option.bind (fm_X6_first x1 r7) fun r59 => hl (α := Int32) ((if r59 = (-1) then 1 else 0)) fun v65 => Option.bind (α := hc_St) (if v58 = v65 then (some (r7)) else (Option.bind (fm_X6_place x1 r7) fun r72 => Option.bind (fm_X9_say 11 r72 r7) fun r76 => some (r76))) fun r68 => Option.bind (fm_X6_first x1 r68) fun r80 => if r80 = (-1) then (some (r68)) else (Option.bind (fm_X6_first x1 r68) fun r86 => Option.bind (fm_X8_number n k0 r86 r68) fun r90 => some (r90.2))) else (some (r7))) fun r47 => some r47
set_option maxRecDepth 20000 in
set_option maxHeartbeats 4000000 in
theorem okX8_leaving (l : Launch) (E : hc_E) (A : Nat → Prop) (d : Nat) (n : Nat) (k0 : Nat) (hD : 2 * k0 + 10 ≤ d) {x1 : Int32} {σ : hc_St} {r : hc_St} (h : fm_X8_leaving n k0 x1 σ = some r) (am : Nat → Nat → Nat) : hc_M l hc_V0 yX8_leaving (ws_ yX8_leaving cX8_leaving 4 none) d E A [.ref (E.2.1 8), .int x1] am [] σ (.inl none) r := by
  have hd1 : 1 ≤ d := by omega
  have hd8 : 9 ≤ d := by omega
  refine hc_enter2 (own := RX8) [(0, .ref (E.2.1 8)), (1, .int x1)] pl_X8 rfl hc_V0_st hc_G0_nd rfl (Nat.le_of_ble_eq_true rfl) (fun X hC hem => ?_)
  unfold fm_X8_leaving at h
  refine hr_aload_n hC dX8_leaving_0 rfl ?_
  refine hr_gO 6 hC F8_0 rfl dX8_leaving_1 q661 ?_
  refine hr_iload_n hC dX8_leaving_4 rfl ?_
  obtain ⟨r1, e2, h⟩ := hx_bind h
  refine hs_callV0 hC 6 [_] _ dX8_leaving_5 q1579 q1369 q1370 q320 q1371 np_X6 rfl OB_6 pd_X6_kind (Nat.le_of_ble_eq_true rfl) hd1 (okX6_kind l E A (d - 1)  (by omega)  e2 am) rfl ?_
  refine hr_istore_n hC dX8_leaving_8 (by decide) ?_
  refine hr_iload_n hC dX8_leaving_9 rfl ?_
  refine hr_bipush (v := 20) hC dX8_leaving_10 rfl ?_
  obtain ⟨r7, e8, h⟩ := hx_bind h
  have J9 : hc_At hc_V0 E 4 X 52 [(0, .ref (E.2.1 8)), (1, .int x1), (2, .int r1)] [] r7 am [] := by
    refine hr_iload_n hC dX8_leaving_52 rfl ?_
    refine hr_bipush (v := 22) hC dX8_leaving_53 rfl ?_
    obtain ⟨r47, e48, h⟩ := hx_bind h
    have J49 : hc_At hc_V0 E 4 X 146 [] [] r47 am [] := by
      obtain rfl := Option.some.inj h
      exact hr_vret hC dX8_leaving_146
    clear h
    have h := e48
    refine hr_icmp_ne (x := _) hC 146 dX8_leaving_55 (by decide) (fun c46 => ?_) (fun c46 => ?_)
    · rw [if_neg c46] at h
      obtain rfl := Option.some.inj h
      exact hr_sub _ rfl (J49)
    · rw [if_pos c46] at h
      refine hr_aload_n hC dX8_leaving_58 rfl ?_
      refine hr_gO 6 hC F8_0 rfl dX8_leaving_59 q661 ?_
      refine hr_aload_n hC dX8_leaving_62 rfl ?_
      refine hr_gA hC F8_7 rfl dX8_leaving_63 q668 ?_
      refine hr_aload_n hC dX8_leaving_66 rfl ?_
      refine hr_gI hC F8_11 dX8_leaving_67 q672 ?_
      obtain ⟨c51, h⟩ := hk_ok h
      refine hs_iald hC A8_7 c51 dX8_leaving_70 ?_
      obtain ⟨r52, e53, h⟩ := hx_bind h
      refine hs_callV0 hC 6 [_] _ dX8_leaving_71 q1638 q1639 q1640 q320 q1641 np_X6 rfl OB_6 pd_X6_op (Nat.le_of_ble_eq_true rfl) hd1 (okX6_op l E A (d - 1)  (by omega)  e53 am) rfl ?_
      refine hr_iconst (v := 2) hC dX8_leaving_74 rfl ?_
      obtain ⟨v58, hv58, h⟩ := hl_ok h
      have J97 : ∀ w98 : Int32, (if r52 = 2 then 1 else 0) = w98 → hc_At hc_V0 E 4 X 83 [(0, .ref (E.2.1 8)), (1, .int x1)] [.int w98] r7 am [] := by
        intro w98 hw98
        obtain rfl := hv58.trans hw98
        refine hr_istore_n hC dX8_leaving_83 (by decide) ?_
        refine hr_iload_n hC dX8_leaving_84 rfl ?_
        refine hr_aload_n hC dX8_leaving_85 rfl ?_
        refine hr_gO 6 hC F8_0 rfl dX8_leaving_86 q661 ?_
        refine hr_iload_n hC dX8_leaving_89 rfl ?_
        obtain ⟨r59, e60, h⟩ := hx_bind h
        refine hs_callV0 hC 6 [_] _ dX8_leaving_90 q1575 q1576 q1577 q320 q1578 np_X6 rfl OB_6 pd_X6_first (Nat.le_of_ble_eq_true rfl) hd1 (okX6_first l E A (d - 1)  (by omega)  e60 am) rfl ?_
        refine hr_iconst (v := (-1)) hC dX8_leaving_93 rfl ?_
        obtain ⟨v65, hv65, h⟩ := hl_ok h
        have J94 : ∀ w95 : Int32, (if r59 = (-1) then 1 else 0) = w95 → hc_At hc_V0 E 4 X 102 [(0, .ref (E.2.1 8)), (1, .int x1)] [.int w95, .int v58] r7 am [] := by
          intro w95 hw95
          obtain rfl := hv65.trans hw95
          obtain ⟨r68, e69, h⟩ := hx_bind h
          have J70 : hc_At hc_V0 E 4 X 122 [(0, .ref (E.2.1 8)), (1, .int x1)] [] r68 am [] := by
            refine hr_aload_n hC dX8_leaving_122 rfl ?_
            refine hr_gO 6 hC F8_0 rfl dX8_leaving_123 q661 ?_
            refine hr_iload_n hC dX8_leaving_126 rfl ?_
            obtain ⟨r80, e81, h⟩ := hx_bind h
            refine hs_callV0 hC 6 [_] _ dX8_leaving_127 q1575 q1576 q1577 q320 q1578 np_X6 rfl OB_6 pd_X6_first (Nat.le_of_ble_eq_true rfl) hd1 (okX6_first l E A (d - 1)  (by omega)  e81 am) rfl ?_
            refine hr_iconst (v := (-1)) hC dX8_leaving_130 rfl ?_
            refine hr_icmp_eq (x := _) hC 146 dX8_leaving_131 (by decide) (fun c85 => ?_) (fun c85 => ?_)
            · rw [if_pos c85] at h
              obtain rfl := Option.some.inj h
              exact hr_sub _ rfl (J49)
            · rw [if_neg c85] at h
              refine hr_aload_n hC dX8_leaving_134 rfl ?_
              refine hr_aload_n hC dX8_leaving_135 rfl ?_
              refine hr_gO 6 hC F8_0 rfl dX8_leaving_136 q661 ?_
              refine hr_iload_n hC dX8_leaving_139 rfl ?_
              obtain ⟨r86, e87, h⟩ := hx_bind h
              refine hs_callV0 hC 6 [_] _ dX8_leaving_140 q1575 q1576 q1577 q320 q1578 np_X6 rfl OB_6 pd_X6_first (Nat.le_of_ble_eq_true rfl) hd1 (okX6_first l E A (d - 1)  (by omega)  e87 am) rfl ?_
              obtain ⟨r90, e91, h⟩ := hx_bind h
              refine hs_callV0 hC 8 [_] _ dX8_leaving_143 q1618 q1620 qs60 q322 q1621 np_X8 rfl OB_8 pd_X8_number (Nat.le_of_ble_eq_true rfl) hd1 (okX8_number l E A (d - 1) n k0 (by omega)  e91 am) rfl ?_
              obtain rfl := Option.some.inj h
              exact hr_sub _ rfl (J49)
          clear h
          have h := e69
          refine hr_icmp_eq (x := _) hC 122 dX8_leaving_102 (by decide) (fun c67 => ?_) (fun c67 => ?_)
          · rw [if_pos c67] at h
            obtain rfl := Option.some.inj h
            exact hr_sub _ rfl (J70)
          · rw [if_neg c67] at h
            refine hr_aload_n hC dX8_leaving_105 rfl ?_
            refine hr_gO 9 hC F8_3 rfl dX8_leaving_106 q664 ?_
            refine hr_bipush (v := 11) hC dX8_leaving_109 rfl ?_
            refine hr_aload_n hC dX8_leaving_111 rfl ?_
            refine hr_gO 6 hC F8_0 rfl dX8_leaving_112 q661 ?_
            refine hr_iload_n hC dX8_leaving_115 rfl ?_
            obtain ⟨r72, e73, h⟩ := hx_bind h
            refine hs_callV0 hC 6 [_] _ dX8_leaving_116 q1593 q1594 q1595 q320 q1596 np_X6 rfl OB_6 pd_X6_place (Nat.le_of_ble_eq_true rfl) hd1 (okX6_place l E A (d - 1)  (by omega)  e73 am) rfl ?_
            obtain ⟨r76, e77, h⟩ := hx_bind h
            refine hs_callV0 hC 9 [_, _] _ dX8_leaving_119 q1597 q1598 q1599 q323 q1600 np_X9 rfl OB_9 pd_X9_say (Nat.le_of_ble_eq_true rfl) hd1 (okX9_say l E A (d - 1)  (by omega)  e77 am) rfl ?_
            obtain rfl := Option.some.inj h
            exact hr_sub _ rfl (J70)
        refine hr_icmp_ne (x := _) hC 101 dX8_leaving_94 (by decide) (fun c96 => ?_) (fun c96 => ?_)
        · refine hr_iconst (v := 0) hC dX8_leaving_101 rfl ?_
          exact hr_sub _ rfl (J94 _ (by first | (rw [if_neg c96]; done) | (simp only [if_neg c96]; done) | rfl))
        · refine hr_iconst (v := 1) hC dX8_leaving_97 rfl ?_
          refine hr_goto hC 102 dX8_leaving_98 (by decide) ?_
          exact hr_sub _ rfl (J94 _ (by first | (rw [if_pos c96]; done) | (simp only [if_pos c96]; done) | rfl))
      refine hr_icmp_ne (x := _) hC 82 dX8_leaving_75 (by decide) (fun c99 => ?_) (fun c99 => ?_)
      · refine hr_iconst (v := 0) hC dX8_leaving_82 rfl ?_
        exact hr_sub _ rfl (J97 _ (by first | (rw [if_neg c99]; done) | (simp only [if_neg c99]; done) | rfl))
      · refine hr_iconst (v := 1) hC dX8_leaving_78 rfl ?_
        refine hr_goto hC 83 dX8_leaving_79 (by decide) ?_
        exact hr_sub _ rfl (J97 _ (by first | (rw [if_pos c99]; done) | (simp only [if_pos c99]; done) | rfl))
  clear h
  have h := e8
  refine hr_icmp_ne (x := _) hC 22 dX8_leaving_12 (by decide) (fun c6 => ?_) (fun c6 => ?_)
  · rw [if_neg c6] at h
    refine hr_iload_n hC dX8_leaving_22 rfl ?_
    refine hr_bipush (v := 21) hC dX8_leaving_23 rfl ?_
    refine hr_icmp_ne (x := _) hC 52 dX8_leaving_25 (by decide) (fun c12 => ?_) (fun c12 => ?_)
    · rw [if_neg c12] at h
      obtain rfl := Option.some.inj h
      exact hr_sub _ rfl (J9)
    · rw [if_pos c12] at h
      refine hr_aload_n hC dX8_leaving_28 rfl ?_
      refine hr_gI hC F8_12 dX8_leaving_29 q673 ?_
      refine hr_if_ne (x := _) hC 52 dX8_leaving_32 (by decide) (fun c14 => ?_) (fun c14 => ?_)
      · rw [if_neg c14] at h
        obtain rfl := Option.some.inj h
        exact hr_sub _ rfl (J9)
      · rw [if_pos c14] at h
        refine hr_aload_n hC dX8_leaving_35 rfl ?_
        refine hr_gO 9 hC F8_3 rfl dX8_leaving_36 q664 ?_
        refine hr_bipush (v := 9) hC dX8_leaving_39 rfl ?_
        refine hr_aload_n hC dX8_leaving_41 rfl ?_
        refine hr_gO 6 hC F8_0 rfl dX8_leaving_42 q661 ?_
        refine hr_iload_n hC dX8_leaving_45 rfl ?_
        obtain ⟨r15, e16, h⟩ := hx_bind h
        refine hs_callV0 hC 6 [_] _ dX8_leaving_46 q1593 q1594 q1595 q320 q1596 np_X6 rfl OB_6 pd_X6_place (Nat.le_of_ble_eq_true rfl) hd1 (okX6_place l E A (d - 1)  (by omega)  e16 am) rfl ?_
        obtain ⟨r19, e20, h⟩ := hx_bind h
        refine hs_callV0 hC 9 [_, _] _ dX8_leaving_49 q1597 q1598 q1599 q323 q1600 np_X9 rfl OB_9 pd_X9_say (Nat.le_of_ble_eq_true rfl) hd1 (okX9_say l E A (d - 1)  (by omega)  e20 am) rfl ?_
        obtain rfl := Option.some.inj h
        exact hr_sub _ rfl (J9)
  · rw [if_pos c6] at h
    refine hr_aload_n hC dX8_leaving_15 rfl ?_
    refine hr_gI hC F8_13 dX8_leaving_16 q674 ?_
    refine hr_if_eq (x := _) hC 35 dX8_leaving_19 (by decide) (fun c24 => ?_) (fun c24 => ?_)
    · rw [if_pos c24] at h
      refine hr_aload_n hC dX8_leaving_35 rfl ?_
      refine hr_gO 9 hC F8_3 rfl dX8_leaving_36 q664 ?_
      refine hr_bipush (v := 9) hC dX8_leaving_39 rfl ?_
      refine hr_aload_n hC dX8_leaving_41 rfl ?_
      refine hr_gO 6 hC F8_0 rfl dX8_leaving_42 q661 ?_
      refine hr_iload_n hC dX8_leaving_45 rfl ?_
      obtain ⟨r25, e26, h⟩ := hx_bind h
      refine hs_callV0 hC 6 [_] _ dX8_leaving_46 q1593 q1594 q1595 q320 q1596 np_X6 rfl OB_6 pd_X6_place (Nat.le_of_ble_eq_true rfl) hd1 (okX6_place l E A (d - 1)  (by omega)  e26 am) rfl ?_
      obtain ⟨r29, e30, h⟩ := hx_bind h
      refine hs_callV0 hC 9 [_, _] _ dX8_leaving_49 q1597 q1598 q1599 q323 q1600 np_X9 rfl OB_9 pd_X9_say (Nat.le_of_ble_eq_true rfl) hd1 (okX9_say l E A (d - 1)  (by omega)  e30 am) rfl ?_
      obtain rfl := Option.some.inj h
      exact hr_sub _ rfl (J9)
    · rw [if_neg c24] at h
      refine hr_iload_n hC dX8_leaving_22 rfl ?_
      refine hr_bipush (v := 21) hC dX8_leaving_23 rfl ?_
      refine hr_icmp_ne (x := _) hC 52 dX8_leaving_25 (by decide) (fun c34 => ?_) (fun c34 => ?_)
      · rw [if_neg c34] at h
        obtain rfl := Option.some.inj h
        exact hr_sub _ rfl (J9)
      · rw [if_pos c34] at h
        refine hr_aload_n hC dX8_leaving_28 rfl ?_
        refine hr_gI hC F8_12 dX8_leaving_29 q673 ?_
        refine hr_if_ne (x := _) hC 52 dX8_leaving_32 (by decide) (fun c36 => ?_) (fun c36 => ?_)
        · rw [if_neg c36] at h
          obtain rfl := Option.some.inj h
          exact hr_sub _ rfl (J9)
        · rw [if_pos c36] at h
          refine hr_aload_n hC dX8_leaving_35 rfl ?_
          refine hr_gO 9 hC F8_3 rfl dX8_leaving_36 q664 ?_
          refine hr_bipush (v := 9) hC dX8_leaving_39 rfl ?_
          refine hr_aload_n hC dX8_leaving_41 rfl ?_
          refine hr_gO 6 hC F8_0 rfl dX8_leaving_42 q661 ?_
          refine hr_iload_n hC dX8_leaving_45 rfl ?_
          obtain ⟨r37, e38, h⟩ := hx_bind h
          refine hs_callV0 hC 6 [_] _ dX8_leaving_46 q1593 q1594 q1595 q320 q1596 np_X6 rfl OB_6 pd_X6_place (Nat.le_of_ble_eq_true rfl) hd1 (okX6_place l E A (d - 1)  (by omega)  e38 am) rfl ?_
          obtain ⟨r41, e42, h⟩ := hx_bind h
          refine hs_callV0 hC 9 [_, _] _ dX8_leaving_49 q1597 q1598 q1599 q323 q1600 np_X9 rfl OB_9 pd_X9_say (Nat.le_of_ble_eq_true rfl) hd1 (okX9_say l E A (d - 1)  (by omega)  e42 am) rfl ?_
          obtain rfl := Option.some.inj h
          exact hr_sub _ rfl (J9)
def okg_X8_statements (l : Launch) (E : hc_E) (A : Nat → Prop) (d : Nat) (am : Nat → Nat → Nat) (w : Nat) (a : List Int32) (σ : hc_St) (r : (Int32 × hc_St)) : Prop := match w with
  | 0 => hc_M l hc_V0 yX8_statements (ws_ yX8_statements cX8_statements 3 none) d E A [.ref (E.2.1 8), .int (a.getD 0 0)] am [10, 11] σ (.inl (none)) r.2
  | 1 => hc_M l hc_V0 yX8_statement (ws_ yX8_statement cX8_statement 3 none) d E A [.ref (E.2.1 8), .int (a.getD 0 0)] am [10, 11] σ (.inl (none)) r.2
  | 2 => hc_M l hc_V0 yX8_body (ws_ yX8_body cX8_body 2 none) d E A [.ref (E.2.1 8), .int (a.getD 0 0)] am [10, 11] σ (.inl (none)) r.2
  | 3 => hc_M l hc_V0 yX8_counting (ws_ yX8_counting cX8_counting 4 none) d E A [.ref (E.2.1 8), .int (a.getD 0 0)] am [10, 11] σ (.inl (none)) r.2
  | 4 => hc_M l hc_V0 yX8_switching (ws_ yX8_switching cX8_switching 5 none) d E A [.ref (E.2.1 8), .int (a.getD 0 0)] am [10, 11] σ (.inl (none)) r.2
  | _ => True
def lp_X8_statements_9 (n : Nat) (k0 : Nat) (rec : Nat → List Int32 → hc_St → Option (Int32 × hc_St)) : Nat → Int32 → hc_St → Option (hc_St)
  | 0, _, _ => none
  | m + 1, y2, σ => if y2 = (-1) then (some (σ)) else (Option.bind (rec 1 [y2] σ) fun r7 => Option.bind (fm_X6_next y2 r7.2) fun r11 => lp_X8_statements_9 n k0 rec m r11 r7.2)
/-- HomeCompiler$Checker.statements(I)V -/
def bd_X8_statements (n : Nat) (k0 : Nat) (rec : Nat → List Int32 → hc_St → Option (Int32 × hc_St)) (x1 : Int32) (σ : hc_St) : Option (Int32 × hc_St) := Option.bind (fm_X6_first x1 σ) fun r1 => Option.bind (lp_X8_statements_9 n k0 rec n r1 σ) fun r15 => some (0, r15)
set_option maxRecDepth 20000 in
set_option maxHeartbeats 4000000 in
theorem ll_X8_statements_9 {l : Launch} {E : hc_E} {A : Nat → Prop} {am : Nat → Nat → Nat} {d : Nat} {kk : Nat} {X : hc_X} (n : Nat) (k0 : Nat) (rec : Nat → List Int32 → hc_St → Option (Int32 × hc_St)) (hD : kk + 2 * k0 + 14 ≤ d) (hem : X.2.2.2.2.2.2.2.2.2.1.exceptionTable.isEmpty = true) (IH : ∀ (w : Nat) (a : List Int32) (σ : hc_St) (r : (Int32 × hc_St)), rec w a σ = some r → ∀ am, okg_X8_statements l E A (d - 1) am w a σ r) {oc : hc_Oc} {σe : hc_St} (hC : hc_C hc_V0 E cX8_statements 3 RX8 none d oc σe (l, A, am, [10, 11]) X) : ∀ (m : Nat) (σ : hc_St) (y2 : Int32) (rl : hc_St), lp_X8_statements_9 n k0 rec m y2 σ = some rl → (∀ am1, hc_At hc_V0 E 3 X 31 [] [] rl am1 []) → ∀ am1, hc_At hc_V0 E 3 X 9 [(0, .ref (E.2.1 8)), (2, .int y2)] [] σ am1 [] := by
  have hd1 : 1 ≤ d := by omega
  have hd8 : 9 ≤ d := by omega
  have hd12 : 12 ≤ d := by omega
  intro m
  induction m with
  | zero =>
    intro σ y2 rl h
    cases h
  | succ m ih =>
    intro σ y2 rl h JX am1
    rw [lp_X8_statements_9] at h
    refine hr_iload_n hC dX8_statements_9 rfl ?_
    refine hr_iconst (v := (-1)) hC dX8_statements_10 rfl ?_
    refine hr_icmp_eq (x := _) hC 31 dX8_statements_11 (by decide) (fun c6 => ?_) (fun c6 => ?_)
    · rw [if_pos c6] at h
      obtain rfl := Option.some.inj h
      exact hr_sub _ rfl (JX am1)
    · rw [if_neg c6] at h
      refine hr_aload_n hC dX8_statements_14 rfl ?_
      refine hr_iload_n hC dX8_statements_15 rfl ?_
      obtain ⟨r7, e8, h⟩ := hx_bind h
      refine hs_callV hC 8 [_] _ dX8_statements_16 q1776 q1778 qs83 q322 q1779 np_X8 rfl OB_8 pd_X8_statement (Nat.le_of_ble_eq_true rfl) hd1 (IH _ _ _ _ e8 am1) (hc_rb rfl) rfl (fun am9 ha10 => ?_)
      refine hr_aload_n hC dX8_statements_19 rfl ?_
      refine hr_gO 6 hC F8_0 rfl dX8_statements_20 q661 ?_
      refine hr_iload_n hC dX8_statements_23 rfl ?_
      obtain ⟨r11, e12, h⟩ := hx_bind h
      refine hs_callV0 hC 6 [_] _ dX8_statements_24 q1602 q1603 q1604 q320 q1605 np_X6 rfl OB_6 pd_X6_next (Nat.le_of_ble_eq_true rfl) hd1 (okX6_next l E A (d - 1)  (by omega)  e12 am9) rfl ?_
      refine hr_istore_n hC dX8_statements_27 (by decide) ?_
      refine hr_goto hC 9 dX8_statements_28 (by decide) ?_
      exact hr_sub _ rfl (ih _ _ _ h JX am9)
set_option maxRecDepth 20000 in
set_option maxHeartbeats 4000000 in
theorem okbX8_statements (l : Launch) (E : hc_E) (A : Nat → Prop) (d : Nat) {kk : Nat} (n : Nat) (k0 : Nat) (rec : Nat → List Int32 → hc_St → Option (Int32 × hc_St)) (hD : kk + 2 * k0 + 14 ≤ d) (IH : ∀ (w : Nat) (a : List Int32) (σ : hc_St) (r : (Int32 × hc_St)), rec w a σ = some r → ∀ am, okg_X8_statements l E A (d - 1) am w a σ r) {x1 : Int32} {σ : hc_St} {r : (Int32 × hc_St)} (h : bd_X8_statements n k0 rec x1 σ = some r) (am : Nat → Nat → Nat) : hc_M l hc_V0 yX8_statements (ws_ yX8_statements cX8_statements 3 none) d E A [.ref (E.2.1 8), .int x1] am [10, 11] σ (.inl (none)) r.2 := by
  have hd1 : 1 ≤ d := by omega
  have hd8 : 9 ≤ d := by omega
  have hd12 : 12 ≤ d := by omega
  refine hc_enter2 (own := RX8) [(0, .ref (E.2.1 8)), (1, .int x1)] pl_X8 rfl hc_V0_st hc_G0_nd rfl (Nat.le_of_ble_eq_true rfl) (fun X hC hem => ?_)
  unfold bd_X8_statements at h
  refine hr_aload_n hC dX8_statements_0 rfl ?_
  refine hr_gO 6 hC F8_0 rfl dX8_statements_1 q661 ?_
  refine hr_iload_n hC dX8_statements_4 rfl ?_
  obtain ⟨r1, e2, h⟩ := hx_bind h
  refine hs_callV0 hC 6 [_] _ dX8_statements_5 q1575 q1576 q1577 q320 q1578 np_X6 rfl OB_6 pd_X6_first (Nat.le_of_ble_eq_true rfl) hd1 (okX6_first l E A (d - 1)  (by omega)  e2 am) rfl ?_
  refine hr_istore_n hC dX8_statements_8 (by decide) ?_
  obtain ⟨r15, e16, h⟩ := hx_bind h
  refine hr_sub _ rfl (ll_X8_statements_9 n k0 rec hD hem IH hC n _ _ _ e16 (fun am19 => ?_) am)
  obtain rfl := Option.some.inj h
  exact hr_vret hC dX8_statements_31
/-- HomeCompiler$Checker.statement(I)V -/
def bd_X8_statement (n : Nat) (k0 : Nat) (rec : Nat → List Int32 → hc_St → Option (Int32 × hc_St)) (x1 : Int32) (σ : hc_St) : Option (Int32 × hc_St) := Option.bind (fm_X6_first x1 σ) fun r1 => Option.bind (fm_X6_kind x1 σ) fun r5 => Option.bind (α := hc_St) (if r5 = 6 then (Option.bind (fm_X8_variables_2 n k0 x1 σ) fun r17 => some (r17)) else if r5 = 10 then (Option.bind (fm_X10_open  σ) fun r21 => Option.bind (rec 0 [x1] r21) fun r25 => Option.bind (fm_X10_close n r25.2) fun r29 => some (r29)) else if r5 = 12 then (Option.bind (fm_X8_anything n k0 r1 σ) fun r33 => some (r33)) else if r5 = 13 then (Option.bind (fm_X8_number n k0 r1 σ) fun r37 => Option.bind (fm_X6_next r1 r37.2) fun r41 => Option.bind (rec 1 [r41] r37.2) fun r45 => Option.bind (fm_X6_next r1 r45.2) fun r49 => Option.bind (fm_X6_next r49 r45.2) fun r53 => if r53 = (-1) then (some (r45.2)) else (Option.bind (fm_X6_next r1 r45.2) fun r59 => Option.bind (fm_X6_next r59 r45.2) fun r63 => Option.bind (rec 1 [r63] r45.2) fun r67 => some (r67.2))) else if r5 = 14 then (Option.bind (fm_X8_number n k0 r1 σ) fun r71 => Option.bind (fm_X6_next r1 r71.2) fun r75 => Option.bind (rec 2 [r75] r71.2) fun r79 => some (r79.2)) else if r5 = 15 then (Option.bind (rec 2 [r1] σ) fun r83 => Option.bind (fm_X6_next r1 r83.2) fun r87 => Option.bind (fm_X8_number n k0 r87 r83.2) fun r91 => some (r91.2)) else if r5 = 16 then (Option.bind (rec 3 [r1] σ) fun r95 => some (r95.2)) else if r5 = 17 then (Option.bind (rec 4 [x1] σ) fun r99 => some (r99.2)) else (Option.bind (fm_X8_leaving n k0 x1 σ) fun r13 => some (r13))) fun r9 => some (0, r9)
set_option maxRecDepth 20000 in
set_option maxHeartbeats 4000000 in
theorem okbX8_statement (l : Launch) (E : hc_E) (A : Nat → Prop) (d : Nat) {kk : Nat} (n : Nat) (k0 : Nat) (rec : Nat → List Int32 → hc_St → Option (Int32 × hc_St)) (hD : kk + 2 * k0 + 14 ≤ d) (IH : ∀ (w : Nat) (a : List Int32) (σ : hc_St) (r : (Int32 × hc_St)), rec w a σ = some r → ∀ am, okg_X8_statements l E A (d - 1) am w a σ r) {x1 : Int32} {σ : hc_St} {r : (Int32 × hc_St)} (h : bd_X8_statement n k0 rec x1 σ = some r) (am : Nat → Nat → Nat) : hc_M l hc_V0 yX8_statement (ws_ yX8_statement cX8_statement 3 none) d E A [.ref (E.2.1 8), .int x1] am [10, 11] σ (.inl (none)) r.2 := by
  have hd1 : 1 ≤ d := by omega
  have hd8 : 9 ≤ d := by omega
  have hd12 : 12 ≤ d := by omega
  refine hc_enter2 (own := RX8) [(0, .ref (E.2.1 8)), (1, .int x1)] pl_X8 rfl hc_V0_st hc_G0_nd rfl (Nat.le_of_ble_eq_true rfl) (fun X hC hem => ?_)
  unfold bd_X8_statement at h
  refine hr_aload_n hC dX8_statement_0 rfl ?_
  refine hr_gO 6 hC F8_0 rfl dX8_statement_1 q661 ?_
  refine hr_iload_n hC dX8_statement_4 rfl ?_
  obtain ⟨r1, e2, h⟩ := hx_bind h
  refine hs_callV0 hC 6 [_] _ dX8_statement_5 q1575 q1576 q1577 q320 q1578 np_X6 rfl OB_6 pd_X6_first (Nat.le_of_ble_eq_true rfl) hd1 (okX6_first l E A (d - 1)  (by omega)  e2 am) rfl ?_
  refine hr_istore_n hC dX8_statement_8 (by decide) ?_
  refine hr_aload_n hC dX8_statement_9 rfl ?_
  refine hr_gO 6 hC F8_0 rfl dX8_statement_10 q661 ?_
  refine hr_iload_n hC dX8_statement_13 rfl ?_
  obtain ⟨r5, e6, h⟩ := hx_bind h
  refine hs_callV0 hC 6 [_] _ dX8_statement_14 q1579 q1369 q1370 q320 q1371 np_X6 rfl OB_6 pd_X6_kind (Nat.le_of_ble_eq_true rfl) hd1 (okX6_kind l E A (d - 1)  (by omega)  e6 am) rfl ?_
  obtain ⟨r9, e10, h⟩ := hx_bind h
  have J11 : ∀ am111, hc_At hc_V0 E 3 X 237 [] [] r9 am111 [] := by
    intro am111
    obtain rfl := Option.some.inj h
    exact hr_vret hC dX8_statement_237
  clear h
  have h := e10
  by_cases c103 : r5 = 6
  · rw [if_pos c103] at h
    refine hr_tableIn hC 102 dX8_statement_17 (by rw [c103] <;> decide) (by rw [c103] <;> decide) (by rw [c103] <;> rfl) (by decide) ?_
    refine hr_aload_n hC dX8_statement_102 rfl ?_
    refine hr_iload_n hC dX8_statement_103 rfl ?_
    obtain ⟨r17, e18, h⟩ := hx_bind h
    refine hs_callV hC 8 [_] _ dX8_statement_104 q1730 q1732 qs76 q322 q1733 np_X8 rfl OB_8 pd_X8_variables_2 (Nat.le_of_ble_eq_true rfl) hd1 (okX8_variables_2 l E A (d - 1) n k0 (by omega)  e18 am) (hc_rb rfl) rfl (fun am19 ha20 => ?_)
    refine hr_goto hC 237 dX8_statement_107 (by decide) ?_
    obtain rfl := Option.some.inj h
    exact hr_sub _ rfl (J11 am19)
  rw [if_neg c103] at h
  by_cases c104 : r5 = 10
  · rw [if_pos c104] at h
    refine hr_tableIn hC 80 dX8_statement_17 (by rw [c104] <;> decide) (by rw [c104] <;> decide) (by rw [c104] <;> rfl) (by decide) ?_
    refine hr_aload_n hC dX8_statement_80 rfl ?_
    refine hr_gO 10 hC F8_4 rfl dX8_statement_81 q665 ?_
    obtain ⟨r21, e22, h⟩ := hx_bind h
    refine hs_callV0 hC 10 [] _ dX8_statement_84 q1768 q1769 q1770 q324 q1771 np_X10 rfl OB_10 pd_X10_open (Nat.le_of_ble_eq_true rfl) hd1 (okX10_open l E A (d - 1)  (by omega)  e22 am) rfl ?_
    refine hr_aload_n hC dX8_statement_87 rfl ?_
    refine hr_iload_n hC dX8_statement_88 rfl ?_
    obtain ⟨r25, e26, h⟩ := hx_bind h
    refine hs_callV hC 8 [_] _ dX8_statement_89 q1772 q1774 qs82 q322 q1775 np_X8 rfl OB_8 pd_X8_statements (Nat.le_of_ble_eq_true rfl) hd1 (IH _ _ _ _ e26 am) (hc_rb rfl) rfl (fun am27 ha28 => ?_)
    refine hr_aload_n hC dX8_statement_92 rfl ?_
    refine hr_gO 10 hC F8_4 rfl dX8_statement_93 q665 ?_
    obtain ⟨r29, e30, h⟩ := hx_bind h
    refine hs_callV0 hC 10 [] _ dX8_statement_96 q1780 q1781 q1782 q324 q1783 np_X10 rfl OB_10 pd_X10_close (Nat.le_of_ble_eq_true rfl) hd1 (okX10_close l E A (d - 1) n (by omega)  e30 am27) rfl ?_
    refine hr_goto hC 237 dX8_statement_99 (by decide) ?_
    obtain rfl := Option.some.inj h
    exact hr_sub _ rfl (J11 am27)
  rw [if_neg c104] at h
  by_cases c105 : r5 = 12
  · rw [if_pos c105] at h
    refine hr_tableIn hC 110 dX8_statement_17 (by rw [c105] <;> decide) (by rw [c105] <;> decide) (by rw [c105] <;> rfl) (by decide) ?_
    refine hr_aload_n hC dX8_statement_110 rfl ?_
    refine hr_iload_n hC dX8_statement_111 rfl ?_
    obtain ⟨r33, e34, h⟩ := hx_bind h
    refine hs_callV0 hC 8 [_] _ dX8_statement_112 q1784 q1786 qs84 q322 q1787 np_X8 rfl OB_8 pd_X8_anything (Nat.le_of_ble_eq_true rfl) hd1 (okX8_anything l E A (d - 1) n k0 (by omega)  e34 am) rfl ?_
    refine hr_goto hC 237 dX8_statement_115 (by decide) ?_
    obtain rfl := Option.some.inj h
    exact hr_sub _ rfl (J11 am)
  rw [if_neg c105] at h
  by_cases c106 : r5 = 13
  · rw [if_pos c106] at h
    refine hr_tableIn hC 118 dX8_statement_17 (by rw [c106] <;> decide) (by rw [c106] <;> decide) (by rw [c106] <;> rfl) (by decide) ?_
    refine hr_aload_n hC dX8_statement_118 rfl ?_
    refine hr_iload_n hC dX8_statement_119 rfl ?_
    obtain ⟨r37, e38, h⟩ := hx_bind h
    refine hs_callV0 hC 8 [_] _ dX8_statement_120 q1618 q1620 qs60 q322 q1621 np_X8 rfl OB_8 pd_X8_number (Nat.le_of_ble_eq_true rfl) hd1 (okX8_number l E A (d - 1) n k0 (by omega)  e38 am) rfl ?_
    refine hr_aload_n hC dX8_statement_123 rfl ?_
    refine hr_aload_n hC dX8_statement_124 rfl ?_
    refine hr_gO 6 hC F8_0 rfl dX8_statement_125 q661 ?_
    refine hr_iload_n hC dX8_statement_128 rfl ?_
    obtain ⟨r41, e42, h⟩ := hx_bind h
    refine hs_callV0 hC 6 [_] _ dX8_statement_129 q1602 q1603 q1604 q320 q1605 np_X6 rfl OB_6 pd_X6_next (Nat.le_of_ble_eq_true rfl) hd1 (okX6_next l E A (d - 1)  (by omega)  e42 am) rfl ?_
    obtain ⟨r45, e46, h⟩ := hx_bind h
    refine hs_callV hC 8 [_] _ dX8_statement_132 q1776 q1778 qs83 q322 q1779 np_X8 rfl OB_8 pd_X8_statement (Nat.le_of_ble_eq_true rfl) hd1 (IH _ _ _ _ e46 am) (hc_rb rfl) rfl (fun am47 ha48 => ?_)
    refine hr_aload_n hC dX8_statement_135 rfl ?_
    refine hr_gO 6 hC F8_0 rfl dX8_statement_136 q661 ?_
    refine hr_aload_n hC dX8_statement_139 rfl ?_
    refine hr_gO 6 hC F8_0 rfl dX8_statement_140 q661 ?_
    refine hr_iload_n hC dX8_statement_143 rfl ?_
    obtain ⟨r49, e50, h⟩ := hx_bind h
    refine hs_callV0 hC 6 [_] _ dX8_statement_144 q1602 q1603 q1604 q320 q1605 np_X6 rfl OB_6 pd_X6_next (Nat.le_of_ble_eq_true rfl) hd1 (okX6_next l E A (d - 1)  (by omega)  e50 am47) rfl ?_
    obtain ⟨r53, e54, h⟩ := hx_bind h
    refine hs_callV0 hC 6 [_] _ dX8_statement_147 q1602 q1603 q1604 q320 q1605 np_X6 rfl OB_6 pd_X6_next (Nat.le_of_ble_eq_true rfl) hd1 (okX6_next l E A (d - 1)  (by omega)  e54 am47) rfl ?_
    refine hr_iconst (v := (-1)) hC dX8_statement_150 rfl ?_
    refine hr_icmp_eq (x := _) hC 237 dX8_statement_151 (by decide) (fun c58 => ?_) (fun c58 => ?_)
    · rw [if_pos c58] at h
      obtain rfl := Option.some.inj h
      exact hr_sub _ rfl (J11 am47)
    · rw [if_neg c58] at h
      refine hr_aload_n hC dX8_statement_154 rfl ?_
      refine hr_aload_n hC dX8_statement_155 rfl ?_
      refine hr_gO 6 hC F8_0 rfl dX8_statement_156 q661 ?_
      refine hr_aload_n hC dX8_statement_159 rfl ?_
      refine hr_gO 6 hC F8_0 rfl dX8_statement_160 q661 ?_
      refine hr_iload_n hC dX8_statement_163 rfl ?_
      obtain ⟨r59, e60, h⟩ := hx_bind h
      refine hs_callV0 hC 6 [_] _ dX8_statement_164 q1602 q1603 q1604 q320 q1605 np_X6 rfl OB_6 pd_X6_next (Nat.le_of_ble_eq_true rfl) hd1 (okX6_next l E A (d - 1)  (by omega)  e60 am47) rfl ?_
      obtain ⟨r63, e64, h⟩ := hx_bind h
      refine hs_callV0 hC 6 [_] _ dX8_statement_167 q1602 q1603 q1604 q320 q1605 np_X6 rfl OB_6 pd_X6_next (Nat.le_of_ble_eq_true rfl) hd1 (okX6_next l E A (d - 1)  (by omega)  e64 am47) rfl ?_
      obtain ⟨r67, e68, h⟩ := hx_bind h
      refine hs_callV hC 8 [_] _ dX8_statement_170 q1776 q1778 qs83 q322 q1779 np_X8 rfl OB_8 pd_X8_statement (Nat.le_of_ble_eq_true rfl) hd1 (IH _ _ _ _ e68 am47) (hc_rb rfl) rfl (fun am69 ha70 => ?_)
      refine hr_goto hC 237 dX8_statement_173 (by decide) ?_
      obtain rfl := Option.some.inj h
      exact hr_sub _ rfl (J11 am69)
  rw [if_neg c106] at h
  by_cases c107 : r5 = 14
  · rw [if_pos c107] at h
    refine hr_tableIn hC 176 dX8_statement_17 (by rw [c107] <;> decide) (by rw [c107] <;> decide) (by rw [c107] <;> rfl) (by decide) ?_
    refine hr_aload_n hC dX8_statement_176 rfl ?_
    refine hr_iload_n hC dX8_statement_177 rfl ?_
    obtain ⟨r71, e72, h⟩ := hx_bind h
    refine hs_callV0 hC 8 [_] _ dX8_statement_178 q1618 q1620 qs60 q322 q1621 np_X8 rfl OB_8 pd_X8_number (Nat.le_of_ble_eq_true rfl) hd1 (okX8_number l E A (d - 1) n k0 (by omega)  e72 am) rfl ?_
    refine hr_aload_n hC dX8_statement_181 rfl ?_
    refine hr_aload_n hC dX8_statement_182 rfl ?_
    refine hr_gO 6 hC F8_0 rfl dX8_statement_183 q661 ?_
    refine hr_iload_n hC dX8_statement_186 rfl ?_
    obtain ⟨r75, e76, h⟩ := hx_bind h
    refine hs_callV0 hC 6 [_] _ dX8_statement_187 q1602 q1603 q1604 q320 q1605 np_X6 rfl OB_6 pd_X6_next (Nat.le_of_ble_eq_true rfl) hd1 (okX6_next l E A (d - 1)  (by omega)  e76 am) rfl ?_
    obtain ⟨r79, e80, h⟩ := hx_bind h
    refine hs_callV hC 8 [_] _ dX8_statement_190 q1788 q1790 qs85 q322 q1791 np_X8 rfl OB_8 pd_X8_body (Nat.le_of_ble_eq_true rfl) hd1 (IH _ _ _ _ e80 am) (hc_rb rfl) rfl (fun am81 ha82 => ?_)
    refine hr_goto hC 237 dX8_statement_193 (by decide) ?_
    obtain rfl := Option.some.inj h
    exact hr_sub _ rfl (J11 am81)
  rw [if_neg c107] at h
  by_cases c108 : r5 = 15
  · rw [if_pos c108] at h
    refine hr_tableIn hC 196 dX8_statement_17 (by rw [c108] <;> decide) (by rw [c108] <;> decide) (by rw [c108] <;> rfl) (by decide) ?_
    refine hr_aload_n hC dX8_statement_196 rfl ?_
    refine hr_iload_n hC dX8_statement_197 rfl ?_
    obtain ⟨r83, e84, h⟩ := hx_bind h
    refine hs_callV hC 8 [_] _ dX8_statement_198 q1788 q1790 qs85 q322 q1791 np_X8 rfl OB_8 pd_X8_body (Nat.le_of_ble_eq_true rfl) hd1 (IH _ _ _ _ e84 am) (hc_rb rfl) rfl (fun am85 ha86 => ?_)
    refine hr_aload_n hC dX8_statement_201 rfl ?_
    refine hr_aload_n hC dX8_statement_202 rfl ?_
    refine hr_gO 6 hC F8_0 rfl dX8_statement_203 q661 ?_
    refine hr_iload_n hC dX8_statement_206 rfl ?_
    obtain ⟨r87, e88, h⟩ := hx_bind h
    refine hs_callV0 hC 6 [_] _ dX8_statement_207 q1602 q1603 q1604 q320 q1605 np_X6 rfl OB_6 pd_X6_next (Nat.le_of_ble_eq_true rfl) hd1 (okX6_next l E A (d - 1)  (by omega)  e88 am85) rfl ?_
    obtain ⟨r91, e92, h⟩ := hx_bind h
    refine hs_callV0 hC 8 [_] _ dX8_statement_210 q1618 q1620 qs60 q322 q1621 np_X8 rfl OB_8 pd_X8_number (Nat.le_of_ble_eq_true rfl) hd1 (okX8_number l E A (d - 1) n k0 (by omega)  e92 am85) rfl ?_
    refine hr_goto hC 237 dX8_statement_213 (by decide) ?_
    obtain rfl := Option.some.inj h
    exact hr_sub _ rfl (J11 am85)
  rw [if_neg c108] at h
  by_cases c109 : r5 = 16
  · rw [if_pos c109] at h
    refine hr_tableIn hC 216 dX8_statement_17 (by rw [c109] <;> decide) (by rw [c109] <;> decide) (by rw [c109] <;> rfl) (by decide) ?_
    refine hr_aload_n hC dX8_statement_216 rfl ?_
    refine hr_iload_n hC dX8_statement_217 rfl ?_
    obtain ⟨r95, e96, h⟩ := hx_bind h
    refine hs_callV hC 8 [_] _ dX8_statement_218 q1792 q1794 qs86 q322 q1795 np_X8 rfl OB_8 pd_X8_counting (Nat.le_of_ble_eq_true rfl) hd1 (IH _ _ _ _ e96 am) (hc_rb rfl) rfl (fun am97 ha98 => ?_)
    refine hr_goto hC 237 dX8_statement_221 (by decide) ?_
    obtain rfl := Option.some.inj h
    exact hr_sub _ rfl (J11 am97)
  rw [if_neg c109] at h
  by_cases c110 : r5 = 17
  · rw [if_pos c110] at h
    refine hr_tableIn hC 224 dX8_statement_17 (by rw [c110] <;> decide) (by rw [c110] <;> decide) (by rw [c110] <;> rfl) (by decide) ?_
    refine hr_aload_n hC dX8_statement_224 rfl ?_
    refine hr_iload_n hC dX8_statement_225 rfl ?_
    obtain ⟨r99, e100, h⟩ := hx_bind h
    refine hs_callV hC 8 [_] _ dX8_statement_226 q1796 q1798 qs87 q322 q1799 np_X8 rfl OB_8 pd_X8_switching (Nat.le_of_ble_eq_true rfl) hd1 (IH _ _ _ _ e100 am) (hc_rb rfl) rfl (fun am101 ha102 => ?_)
    refine hr_goto hC 237 dX8_statement_229 (by decide) ?_
    obtain rfl := Option.some.inj h
    exact hr_sub _ rfl (J11 am101)
  rw [if_neg c110] at h
  refine hr_tableD hC 232 dX8_statement_17 (ks := [6, 10, 12, 13, 14, 15, 16, 17]) (hc_l1 (hc_ne c103 rfl) (hc_l1 (hc_ne c104 rfl) (hc_l1 (hc_ne c105 rfl) (hc_l1 (hc_ne c106 rfl) (hc_l1 (hc_ne c107 rfl) (hc_l1 (hc_ne c108 rfl) (hc_l1 (hc_ne c109 rfl) (hc_l1 (hc_ne c110 rfl) hc_l0)))))))) (by decide) (by decide) (by decide) ?_
  refine hr_aload_n hC dX8_statement_232 rfl ?_
  refine hr_iload_n hC dX8_statement_233 rfl ?_
  obtain ⟨r13, e14, h⟩ := hx_bind h
  refine hs_callV0 hC 8 [_] _ dX8_statement_234 q1804 q1806 qs89 q322 q1807 np_X8 rfl OB_8 pd_X8_leaving (Nat.le_of_ble_eq_true rfl) hd1 (okX8_leaving l E A (d - 1) n k0 (by omega)  e14 am) rfl ?_
  obtain rfl := Option.some.inj h
  exact hr_sub _ rfl (J11 am)
/-- HomeCompiler$Checker.body(I)V -/
def bd_X8_body (n : Nat) (k0 : Nat) (rec : Nat → List Int32 → hc_St → Option (Int32 × hc_St)) (x1 : Int32) (σ : hc_St) : Option (Int32 × hc_St) := hl (pI σ 8 12 ((((gI σ 8 12)) + 1))) fun σ1 => hl (pI σ1 8 13 ((((gI σ1 8 13)) + 1))) fun σ2 => Option.bind (rec 1 [x1] σ2) fun r3 => hl (pI r3.2 8 12 ((((gI r3.2 8 12)) - 1))) fun σ7 => hl (pI σ7 8 13 ((((gI σ7 8 13)) - 1))) fun σ8 => some (0, σ8)
set_option maxRecDepth 20000 in
set_option maxHeartbeats 4000000 in
theorem okbX8_body (l : Launch) (E : hc_E) (A : Nat → Prop) (d : Nat) {kk : Nat} (n : Nat) (k0 : Nat) (rec : Nat → List Int32 → hc_St → Option (Int32 × hc_St)) (hD : kk + 2 * k0 + 14 ≤ d) (IH : ∀ (w : Nat) (a : List Int32) (σ : hc_St) (r : (Int32 × hc_St)), rec w a σ = some r → ∀ am, okg_X8_statements l E A (d - 1) am w a σ r) {x1 : Int32} {σ : hc_St} {r : (Int32 × hc_St)} (h : bd_X8_body n k0 rec x1 σ = some r) (am : Nat → Nat → Nat) : hc_M l hc_V0 yX8_body (ws_ yX8_body cX8_body 2 none) d E A [.ref (E.2.1 8), .int x1] am [10, 11] σ (.inl (none)) r.2 := by
  have hd1 : 1 ≤ d := by omega
  have hd8 : 9 ≤ d := by omega
  have hd12 : 12 ≤ d := by omega
  refine hc_enter2 (own := RX8) [(0, .ref (E.2.1 8)), (1, .int x1)] pl_X8 rfl hc_V0_st hc_G0_nd rfl (Nat.le_of_ble_eq_true rfl) (fun X hC hem => ?_)
  unfold bd_X8_body at h
  refine hr_aload_n hC dX8_body_0 rfl ?_
  refine hr_dup hC dX8_body_1 rfl ?_
  refine hr_gI hC F8_12 dX8_body_2 q673 ?_
  refine hr_iconst (v := 1) hC dX8_body_5 rfl ?_
  refine hr_iadd hC dX8_body_6 ?_
  obtain ⟨σ1, hσ1, h⟩ := hl_ok h
  refine hr_pI hC F8_12 PX8_12 dX8_body_7 q673 ?_
  rw [← hσ1]
  refine hr_aload_n hC dX8_body_10 rfl ?_
  refine hr_dup hC dX8_body_11 rfl ?_
  refine hr_gI hC F8_13 dX8_body_12 q674 ?_
  refine hr_iconst (v := 1) hC dX8_body_15 rfl ?_
  refine hr_iadd hC dX8_body_16 ?_
  obtain ⟨σ2, hσ2, h⟩ := hl_ok h
  refine hr_pI hC F8_13 PX8_13 dX8_body_17 q674 ?_
  rw [← hσ2]
  refine hr_aload_n hC dX8_body_20 rfl ?_
  refine hr_iload_n hC dX8_body_21 rfl ?_
  obtain ⟨r3, e4, h⟩ := hx_bind h
  refine hs_callV hC 8 [_] _ dX8_body_22 q1776 q1778 qs83 q322 q1779 np_X8 rfl OB_8 pd_X8_statement (Nat.le_of_ble_eq_true rfl) hd1 (IH _ _ _ _ e4 am) (hc_rb rfl) rfl (fun am5 ha6 => ?_)
  refine hr_aload_n hC dX8_body_25 rfl ?_
  refine hr_dup hC dX8_body_26 rfl ?_
  refine hr_gI hC F8_12 dX8_body_27 q673 ?_
  refine hr_iconst (v := 1) hC dX8_body_30 rfl ?_
  refine hr_isub hC dX8_body_31 ?_
  obtain ⟨σ7, hσ7, h⟩ := hl_ok h
  refine hr_pI hC F8_12 PX8_12 dX8_body_32 q673 ?_
  rw [← hσ7]
  refine hr_aload_n hC dX8_body_35 rfl ?_
  refine hr_dup hC dX8_body_36 rfl ?_
  refine hr_gI hC F8_13 dX8_body_37 q674 ?_
  refine hr_iconst (v := 1) hC dX8_body_40 rfl ?_
  refine hr_isub hC dX8_body_41 ?_
  obtain ⟨σ8, hσ8, h⟩ := hl_ok h
  refine hr_pI hC F8_13 PX8_13 dX8_body_42 q674 ?_
  rw [← hσ8]
  obtain rfl := Option.some.inj h
  exact hr_vret hC dX8_body_45
/-- HomeCompiler$Checker.counting(I)V -/
def bd_X8_counting (n : Nat) (k0 : Nat) (rec : Nat → List Int32 → hc_St → Option (Int32 × hc_St)) (x1 : Int32) (σ : hc_St) : Option (Int32 × hc_St) := Option.bind (fm_X10_open  σ) fun r1 => Option.bind (fm_X6_next x1 r1) fun r5 => Option.bind (fm_X6_next r5 r1) fun r9 => Option.bind (fm_X6_kind x1 r1) fun r13 => Option.bind (α := hc_St) (if r13 = 6 then (Option.bind (fm_X8_variables_2 n k0 x1 r1) fun r33 => some (r33)) else (Option.bind (fm_X6_kind x1 r1) fun r23 => if r23 = 11 then (some (r1)) else (Option.bind (fm_X8_anything n k0 x1 r1) fun r29 => some (r29)))) fun r19 => Option.bind (fm_X6_kind r5 r19) fun r38 => Option.bind (α := hc_St) (if r38 = 11 then (some (r19)) else (Option.bind (fm_X8_number n k0 r5 r19) fun r48 => some (r48.2))) fun r44 => Option.bind (fm_X6_kind r9 r44) fun r52 => Option.bind (α := hc_St) (if r52 = 11 then (some (r44)) else (Option.bind (fm_X8_anything n k0 r9 r44) fun r62 => some (r62))) fun r58 => Option.bind (fm_X6_next r9 r58) fun r66 => Option.bind (rec 2 [r66] r58) fun r70 => Option.bind (fm_X10_close n r70.2) fun r74 => some (0, r74)
set_option maxRecDepth 20000 in
set_option maxHeartbeats 4000000 in
theorem okbX8_counting (l : Launch) (E : hc_E) (A : Nat → Prop) (d : Nat) {kk : Nat} (n : Nat) (k0 : Nat) (rec : Nat → List Int32 → hc_St → Option (Int32 × hc_St)) (hD : kk + 2 * k0 + 14 ≤ d) (IH : ∀ (w : Nat) (a : List Int32) (σ : hc_St) (r : (Int32 × hc_St)), rec w a σ = some r → ∀ am, okg_X8_statements l E A (d - 1) am w a σ r) {x1 : Int32} {σ : hc_St} {r : (Int32 × hc_St)} (h : bd_X8_counting n k0 rec x1 σ = some r) (am : Nat → Nat → Nat) : hc_M l hc_V0 yX8_counting (ws_ yX8_counting cX8_counting 4 none) d E A [.ref (E.2.1 8), .int x1] am [10, 11] σ (.inl (none)) r.2 := by
  have hd1 : 1 ≤ d := by omega
  have hd8 : 9 ≤ d := by omega
  have hd12 : 12 ≤ d := by omega
  refine hc_enter2 (own := RX8) [(0, .ref (E.2.1 8)), (1, .int x1)] pl_X8 rfl hc_V0_st hc_G0_nd rfl (Nat.le_of_ble_eq_true rfl) (fun X hC hem => ?_)
  unfold bd_X8_counting at h
  refine hr_aload_n hC dX8_counting_0 rfl ?_
  refine hr_gO 10 hC F8_4 rfl dX8_counting_1 q665 ?_
  obtain ⟨r1, e2, h⟩ := hx_bind h
  refine hs_callV0 hC 10 [] _ dX8_counting_4 q1768 q1769 q1770 q324 q1771 np_X10 rfl OB_10 pd_X10_open (Nat.le_of_ble_eq_true rfl) hd1 (okX10_open l E A (d - 1)  (by omega)  e2 am) rfl ?_
  refine hr_aload_n hC dX8_counting_7 rfl ?_
  refine hr_gO 6 hC F8_0 rfl dX8_counting_8 q661 ?_
  refine hr_iload_n hC dX8_counting_11 rfl ?_
  obtain ⟨r5, e6, h⟩ := hx_bind h
  refine hs_callV0 hC 6 [_] _ dX8_counting_12 q1602 q1603 q1604 q320 q1605 np_X6 rfl OB_6 pd_X6_next (Nat.le_of_ble_eq_true rfl) hd1 (okX6_next l E A (d - 1)  (by omega)  e6 am) rfl ?_
  refine hr_istore_n hC dX8_counting_15 (by decide) ?_
  refine hr_aload_n hC dX8_counting_16 rfl ?_
  refine hr_gO 6 hC F8_0 rfl dX8_counting_17 q661 ?_
  refine hr_iload_n hC dX8_counting_20 rfl ?_
  obtain ⟨r9, e10, h⟩ := hx_bind h
  refine hs_callV0 hC 6 [_] _ dX8_counting_21 q1602 q1603 q1604 q320 q1605 np_X6 rfl OB_6 pd_X6_next (Nat.le_of_ble_eq_true rfl) hd1 (okX6_next l E A (d - 1)  (by omega)  e10 am) rfl ?_
  refine hr_istore_n hC dX8_counting_24 (by decide) ?_
  refine hr_aload_n hC dX8_counting_25 rfl ?_
  refine hr_gO 6 hC F8_0 rfl dX8_counting_26 q661 ?_
  refine hr_iload_n hC dX8_counting_29 rfl ?_
  obtain ⟨r13, e14, h⟩ := hx_bind h
  refine hs_callV0 hC 6 [_] _ dX8_counting_30 q1579 q1369 q1370 q320 q1371 np_X6 rfl OB_6 pd_X6_kind (Nat.le_of_ble_eq_true rfl) hd1 (okX6_kind l E A (d - 1)  (by omega)  e14 am) rfl ?_
  refine hr_bipush (v := 6) hC dX8_counting_33 rfl ?_
  obtain ⟨r19, e20, h⟩ := hx_bind h
  have J21 : ∀ am37, hc_At hc_V0 E 4 X 64 [(0, .ref (E.2.1 8)), (2, .int r5), (3, .int r9)] [] r19 am37 [] := by
    intro am37
    refine hr_aload_n hC dX8_counting_64 rfl ?_
    refine hr_gO 6 hC F8_0 rfl dX8_counting_65 q661 ?_
    refine hr_iload_n hC dX8_counting_68 rfl ?_
    obtain ⟨r38, e39, h⟩ := hx_bind h
    refine hs_callV0 hC 6 [_] _ dX8_counting_69 q1579 q1369 q1370 q320 q1371 np_X6 rfl OB_6 pd_X6_kind (Nat.le_of_ble_eq_true rfl) hd1 (okX6_kind l E A (d - 1)  (by omega)  e39 am37) rfl ?_
    refine hr_bipush (v := 11) hC dX8_counting_72 rfl ?_
    obtain ⟨r44, e45, h⟩ := hx_bind h
    have J46 : hc_At hc_V0 E 4 X 82 [(0, .ref (E.2.1 8)), (3, .int r9)] [] r44 am37 [] := by
      refine hr_aload_n hC dX8_counting_82 rfl ?_
      refine hr_gO 6 hC F8_0 rfl dX8_counting_83 q661 ?_
      refine hr_iload_n hC dX8_counting_86 rfl ?_
      obtain ⟨r52, e53, h⟩ := hx_bind h
      refine hs_callV0 hC 6 [_] _ dX8_counting_87 q1579 q1369 q1370 q320 q1371 np_X6 rfl OB_6 pd_X6_kind (Nat.le_of_ble_eq_true rfl) hd1 (okX6_kind l E A (d - 1)  (by omega)  e53 am37) rfl ?_
      refine hr_bipush (v := 11) hC dX8_counting_90 rfl ?_
      obtain ⟨r58, e59, h⟩ := hx_bind h
      have J60 : hc_At hc_V0 E 4 X 100 [(0, .ref (E.2.1 8)), (3, .int r9)] [] r58 am37 [] := by
        refine hr_aload_n hC dX8_counting_100 rfl ?_
        refine hr_aload_n hC dX8_counting_101 rfl ?_
        refine hr_gO 6 hC F8_0 rfl dX8_counting_102 q661 ?_
        refine hr_iload_n hC dX8_counting_105 rfl ?_
        obtain ⟨r66, e67, h⟩ := hx_bind h
        refine hs_callV0 hC 6 [_] _ dX8_counting_106 q1602 q1603 q1604 q320 q1605 np_X6 rfl OB_6 pd_X6_next (Nat.le_of_ble_eq_true rfl) hd1 (okX6_next l E A (d - 1)  (by omega)  e67 am37) rfl ?_
        obtain ⟨r70, e71, h⟩ := hx_bind h
        refine hs_callV hC 8 [_] _ dX8_counting_109 q1788 q1790 qs85 q322 q1791 np_X8 rfl OB_8 pd_X8_body (Nat.le_of_ble_eq_true rfl) hd1 (IH _ _ _ _ e71 am37) (hc_rb rfl) rfl (fun am72 ha73 => ?_)
        refine hr_aload_n hC dX8_counting_112 rfl ?_
        refine hr_gO 10 hC F8_4 rfl dX8_counting_113 q665 ?_
        obtain ⟨r74, e75, h⟩ := hx_bind h
        refine hs_callV0 hC 10 [] _ dX8_counting_116 q1780 q1781 q1782 q324 q1783 np_X10 rfl OB_10 pd_X10_close (Nat.le_of_ble_eq_true rfl) hd1 (okX10_close l E A (d - 1) n (by omega)  e75 am72) rfl ?_
        obtain rfl := Option.some.inj h
        exact hr_vret hC dX8_counting_119
      clear h
      have h := e59
      refine hr_icmp_eq (x := _) hC 100 dX8_counting_92 (by decide) (fun c57 => ?_) (fun c57 => ?_)
      · rw [if_pos c57] at h
        obtain rfl := Option.some.inj h
        exact hr_sub _ rfl (J60)
      · rw [if_neg c57] at h
        refine hr_aload_n hC dX8_counting_95 rfl ?_
        refine hr_iload_n hC dX8_counting_96 rfl ?_
        obtain ⟨r62, e63, h⟩ := hx_bind h
        refine hs_callV0 hC 8 [_] _ dX8_counting_97 q1784 q1786 qs84 q322 q1787 np_X8 rfl OB_8 pd_X8_anything (Nat.le_of_ble_eq_true rfl) hd1 (okX8_anything l E A (d - 1) n k0 (by omega)  e63 am37) rfl ?_
        obtain rfl := Option.some.inj h
        exact hr_sub _ rfl (J60)
    clear h
    have h := e45
    refine hr_icmp_eq (x := _) hC 82 dX8_counting_74 (by decide) (fun c43 => ?_) (fun c43 => ?_)
    · rw [if_pos c43] at h
      obtain rfl := Option.some.inj h
      exact hr_sub _ rfl (J46)
    · rw [if_neg c43] at h
      refine hr_aload_n hC dX8_counting_77 rfl ?_
      refine hr_iload_n hC dX8_counting_78 rfl ?_
      obtain ⟨r48, e49, h⟩ := hx_bind h
      refine hs_callV0 hC 8 [_] _ dX8_counting_79 q1618 q1620 qs60 q322 q1621 np_X8 rfl OB_8 pd_X8_number (Nat.le_of_ble_eq_true rfl) hd1 (okX8_number l E A (d - 1) n k0 (by omega)  e49 am37) rfl ?_
      obtain rfl := Option.some.inj h
      exact hr_sub _ rfl (J46)
  clear h
  have h := e20
  refine hr_icmp_ne (x := _) hC 46 dX8_counting_35 (by decide) (fun c18 => ?_) (fun c18 => ?_)
  · rw [if_neg c18] at h
    refine hr_aload_n hC dX8_counting_46 rfl ?_
    refine hr_gO 6 hC F8_0 rfl dX8_counting_47 q661 ?_
    refine hr_iload_n hC dX8_counting_50 rfl ?_
    obtain ⟨r23, e24, h⟩ := hx_bind h
    refine hs_callV0 hC 6 [_] _ dX8_counting_51 q1579 q1369 q1370 q320 q1371 np_X6 rfl OB_6 pd_X6_kind (Nat.le_of_ble_eq_true rfl) hd1 (okX6_kind l E A (d - 1)  (by omega)  e24 am) rfl ?_
    refine hr_bipush (v := 11) hC dX8_counting_54 rfl ?_
    refine hr_icmp_eq (x := _) hC 64 dX8_counting_56 (by decide) (fun c28 => ?_) (fun c28 => ?_)
    · rw [if_pos c28] at h
      obtain rfl := Option.some.inj h
      exact hr_sub _ rfl (J21 am)
    · rw [if_neg c28] at h
      refine hr_aload_n hC dX8_counting_59 rfl ?_
      refine hr_iload_n hC dX8_counting_60 rfl ?_
      obtain ⟨r29, e30, h⟩ := hx_bind h
      refine hs_callV0 hC 8 [_] _ dX8_counting_61 q1784 q1786 qs84 q322 q1787 np_X8 rfl OB_8 pd_X8_anything (Nat.le_of_ble_eq_true rfl) hd1 (okX8_anything l E A (d - 1) n k0 (by omega)  e30 am) rfl ?_
      obtain rfl := Option.some.inj h
      exact hr_sub _ rfl (J21 am)
  · rw [if_pos c18] at h
    refine hr_aload_n hC dX8_counting_38 rfl ?_
    refine hr_iload_n hC dX8_counting_39 rfl ?_
    obtain ⟨r33, e34, h⟩ := hx_bind h
    refine hs_callV hC 8 [_] _ dX8_counting_40 q1730 q1732 qs76 q322 q1733 np_X8 rfl OB_8 pd_X8_variables_2 (Nat.le_of_ble_eq_true rfl) hd1 (okX8_variables_2 l E A (d - 1) n k0 (by omega)  e34 am) (hc_rb rfl) rfl (fun am35 ha36 => ?_)
    refine hr_goto hC 64 dX8_counting_43 (by decide) ?_
    obtain rfl := Option.some.inj h
    exact hr_sub _ rfl (J21 am35)
def lp_X8_switching_45 (n : Nat) (k0 : Nat) (rec : Nat → List Int32 → hc_St → Option (Int32 × hc_St)) : Nat → Int32 → Int32 → hc_St → Option (hc_St)
  | 0, _, _, _ => none
  | m + 1, y1, y2, σ => if y2 = (-1) then (some (σ)) else (Option.bind (fm_X6_kind y2 σ) fun r24 => Option.bind (α := hc_St) (if r24 = 18 then (Option.bind (α := hc_St × Int32) (if r24 = 19 then (some (σ, 1)) else (Option.bind (fm_X6_first y2 σ) fun r40 => Option.bind (fm_X8_constant n k0 r40 σ) fun r44 => if r44.1 = 0 then (some (r44.2, 0)) else (some (r44.2, 1)))) fun r36 => hl (α := Int32) ((if r36.2 = 0 then 0 else 1)) fun v52 => Option.bind (fm_X6_setExtra y2 v52 r36.1) fun r53 => Option.bind (α := hc_St) (if r36.2 = 0 then (some (r53)) else (Option.bind (fm_X6_first y1 r53) fun r63 => Option.bind (fm_X6_next r63 r53) fun r67 => Option.bind (fm_X8_isTwice n r67 y2 r53) fun r71 => if r71 = 0 then (some (r53)) else (Option.bind (fm_X6_place y2 r53) fun r77 => Option.bind (fm_X9_say 10 r77 r53) fun r81 => some (r81)))) fun r59 => some (r59)) else (if r24 = 19 then (Option.bind (α := hc_St × Int32) (if r24 = 19 then (some (σ, 1)) else (Option.bind (fm_X6_first y2 σ) fun r100 => Option.bind (fm_X8_constant n k0 r100 σ) fun r104 => if r104.1 = 0 then (some (r104.2, 0)) else (some (r104.2, 1)))) fun r96 => hl (α := Int32) ((if r96.2 = 0 then 0 else 1)) fun v112 => Option.bind (fm_X6_setExtra y2 v112 r96.1) fun r113 => Option.bind (α := hc_St) (if r96.2 = 0 then (some (r113)) else (Option.bind (fm_X6_first y1 r113) fun r123 => Option.bind (fm_X6_next r123 r113) fun r127 => Option.bind (fm_X8_isTwice n r127 y2 r113) fun r131 => if r131 = 0 then (some (r113)) else (Option.bind (fm_X6_place y2 r113) fun r137 => Option.bind (fm_X9_say 10 r137 r113) fun r141 => some (r141)))) fun r119 => some (r119)) else (Option.bind (rec 1 [y2] σ) fun r90 => some (r90.2)))) fun r30 => Option.bind (fm_X6_next y2 r30) fun r149 => lp_X8_switching_45 n k0 rec m y1 r149 r30)
/-- HomeCompiler$Checker.switching(I)V -/
def bd_X8_switching (n : Nat) (k0 : Nat) (rec : Nat → List Int32 → hc_St → Option (Int32 × hc_St)) (x1 : Int32) (σ : hc_St) : Option (Int32 × hc_St) := Option.bind (fm_X6_first x1 σ) fun r1 => Option.bind (fm_X8_number n k0 r1 σ) fun r5 => Option.bind (fm_X10_open  r5.2) fun r9 => hl (pI r9 8 13 ((((gI r9 8 13)) + 1))) fun σ13 => Option.bind (fm_X6_first x1 σ13) fun r14 => Option.bind (fm_X6_next r14 σ13) fun r18 => Option.bind (lp_X8_switching_45 n k0 rec n x1 r18 σ13) fun r153 => hl (pI r153 8 13 ((((gI r153 8 13)) - 1))) fun σ158 => Option.bind (fm_X10_close n σ158) fun r159 => some (0, r159)
set_option maxRecDepth 20000 in
set_option maxHeartbeats 4000000 in
theorem ll_X8_switching_45 {l : Launch} {E : hc_E} {A : Nat → Prop} {am : Nat → Nat → Nat} {d : Nat} {kk : Nat} {X : hc_X} (n : Nat) (k0 : Nat) (rec : Nat → List Int32 → hc_St → Option (Int32 × hc_St)) (hD : kk + 2 * k0 + 14 ≤ d) (hem : X.2.2.2.2.2.2.2.2.2.1.exceptionTable.isEmpty = true) (IH : ∀ (w : Nat) (a : List Int32) (σ : hc_St) (r : (Int32 × hc_St)), rec w a σ = some r → ∀ am, okg_X8_statements l E A (d - 1) am w a σ r) {oc : hc_Oc} {σe : hc_St} (hC : hc_C hc_V0 E cX8_switching 5 RX8 none d oc σe (l, A, am, [10, 11]) X) : ∀ (m : Nat) (σ : hc_St) (y1 : Int32) (y2 : Int32) (rl : hc_St), lp_X8_switching_45 n k0 rec m y1 y2 σ = some rl → (∀ am1, hc_At hc_V0 E 5 X 182 [(0, .ref (E.2.1 8))] [] rl am1 []) → ∀ am1, hc_At hc_V0 E 5 X 45 [(0, .ref (E.2.1 8)), (1, .int y1), (2, .int y2)] [] σ am1 [] := by
  have hd1 : 1 ≤ d := by omega
  have hd8 : 9 ≤ d := by omega
  have hd12 : 12 ≤ d := by omega
  intro m
  induction m with
  | zero =>
    intro σ y1 y2 rl h
    cases h
  | succ m ih =>
    intro σ y1 y2 rl h JX am1
    rw [lp_X8_switching_45] at h
    refine hr_iload_n hC dX8_switching_45 rfl ?_
    refine hr_iconst (v := (-1)) hC dX8_switching_46 rfl ?_
    refine hr_icmp_eq (x := _) hC 182 dX8_switching_47 (by decide) (fun c23 => ?_) (fun c23 => ?_)
    · rw [if_pos c23] at h
      obtain rfl := Option.some.inj h
      exact hr_sub _ rfl (JX am1)
    · rw [if_neg c23] at h
      refine hr_aload_n hC dX8_switching_50 rfl ?_
      refine hr_gO 6 hC F8_0 rfl dX8_switching_51 q661 ?_
      refine hr_iload_n hC dX8_switching_54 rfl ?_
      obtain ⟨r24, e25, h⟩ := hx_bind h
      refine hs_callV0 hC 6 [_] _ dX8_switching_55 q1579 q1369 q1370 q320 q1371 np_X6 rfl OB_6 pd_X6_kind (Nat.le_of_ble_eq_true rfl) hd1 (okX6_kind l E A (d - 1)  (by omega)  e25 am1) rfl ?_
      refine hr_istore_n hC dX8_switching_58 (by decide) ?_
      refine hr_iload_n hC dX8_switching_59 rfl ?_
      refine hr_bipush (v := 18) hC dX8_switching_60 rfl ?_
      obtain ⟨r30, e31, h⟩ := hx_bind h
      have J32 : ∀ am148, hc_At hc_V0 E 5 X 170 [(0, .ref (E.2.1 8)), (1, .int y1), (2, .int y2)] [] r30 am148 [] := by
        intro am148
        refine hr_aload_n hC dX8_switching_170 rfl ?_
        refine hr_gO 6 hC F8_0 rfl dX8_switching_171 q661 ?_
        refine hr_iload_n hC dX8_switching_174 rfl ?_
        obtain ⟨r149, e150, h⟩ := hx_bind h
        refine hs_callV0 hC 6 [_] _ dX8_switching_175 q1602 q1603 q1604 q320 q1605 np_X6 rfl OB_6 pd_X6_next (Nat.le_of_ble_eq_true rfl) hd1 (okX6_next l E A (d - 1)  (by omega)  e150 am148) rfl ?_
        refine hr_istore_n hC dX8_switching_178 (by decide) ?_
        refine hr_goto hC 45 dX8_switching_179 (by decide) ?_
        exact hr_sub _ rfl (ih _ _ _ _ h JX am148)
      clear h
      have h := e31
      refine hr_icmp_eq (x := _) hC 71 dX8_switching_62 (by decide) (fun c29 => ?_) (fun c29 => ?_)
      · rw [if_pos c29] at h
        refine hr_iload_n hC dX8_switching_71 rfl ?_
        refine hr_bipush (v := 19) hC dX8_switching_72 rfl ?_
        obtain ⟨r36, e37, h⟩ := hx_bind h
        have J38 : hc_At hc_V0 E 5 X 97 [(0, .ref (E.2.1 8)), (1, .int y1), (2, .int y2)] [.int r36.2] r36.1 am1 [] := by
          refine hr_istore hC dX8_switching_97 (by decide) ?_
          refine hr_aload_n hC dX8_switching_99 rfl ?_
          refine hr_gO 6 hC F8_0 rfl dX8_switching_100 q661 ?_
          refine hr_iload_n hC dX8_switching_103 rfl ?_
          refine hr_iload hC dX8_switching_104 rfl ?_
          obtain ⟨v52, hv52, h⟩ := hl_ok h
          have J85 : ∀ w86 : Int32, (if r36.2 = 0 then 0 else 1) = w86 → hc_At hc_V0 E 5 X 114 [(0, .ref (E.2.1 8)), (1, .int y1), (2, .int y2), (4, .int r36.2)] [.int w86, .int y2, .ref (E.2.1 6)] r36.1 am1 [] := by
            intro w86 hw86
            obtain rfl := hv52.trans hw86
            obtain ⟨r53, e54, h⟩ := hx_bind h
            refine hs_callV0 hC 6 [_, _] _ dX8_switching_114 q1601 q1463 q1464 q320 q1465 np_X6 rfl OB_6 pd_X6_setExtra (Nat.le_of_ble_eq_true rfl) hd1 (okX6_setExtra l E A (d - 1)  (by omega)  e54 am1) rfl ?_
            refine hr_iload hC dX8_switching_117 rfl ?_
            obtain ⟨r59, e60, h⟩ := hx_bind h
            have J61 : hc_At hc_V0 E 5 X 162 [(0, .ref (E.2.1 8)), (1, .int y1), (2, .int y2)] [] r59 am1 [] := by
              refine hr_goto hC 170 dX8_switching_162 (by decide) ?_
              obtain rfl := Option.some.inj h
              exact hr_sub _ rfl (J32 am1)
            clear h
            have h := e60
            refine hr_if_eq (x := _) hC 162 dX8_switching_119 (by decide) (fun c58 => ?_) (fun c58 => ?_)
            · rw [if_pos c58] at h
              obtain rfl := Option.some.inj h
              exact hr_sub _ rfl (J61)
            · rw [if_neg c58] at h
              refine hr_aload_n hC dX8_switching_122 rfl ?_
              refine hr_aload_n hC dX8_switching_123 rfl ?_
              refine hr_gO 6 hC F8_0 rfl dX8_switching_124 q661 ?_
              refine hr_aload_n hC dX8_switching_127 rfl ?_
              refine hr_gO 6 hC F8_0 rfl dX8_switching_128 q661 ?_
              refine hr_iload_n hC dX8_switching_131 rfl ?_
              obtain ⟨r63, e64, h⟩ := hx_bind h
              refine hs_callV0 hC 6 [_] _ dX8_switching_132 q1575 q1576 q1577 q320 q1578 np_X6 rfl OB_6 pd_X6_first (Nat.le_of_ble_eq_true rfl) hd1 (okX6_first l E A (d - 1)  (by omega)  e64 am1) rfl ?_
              obtain ⟨r67, e68, h⟩ := hx_bind h
              refine hs_callV0 hC 6 [_] _ dX8_switching_135 q1602 q1603 q1604 q320 q1605 np_X6 rfl OB_6 pd_X6_next (Nat.le_of_ble_eq_true rfl) hd1 (okX6_next l E A (d - 1)  (by omega)  e68 am1) rfl ?_
              refine hr_iload_n hC dX8_switching_138 rfl ?_
              obtain ⟨r71, e72, h⟩ := hx_bind h
              refine hs_callV0 hC 8 [_, _] _ dX8_switching_139 q1800 q1802 qs88 q322 q1803 np_X8 rfl OB_8 pd_X8_isTwice (Nat.le_of_ble_eq_true rfl) hd1 (okX8_isTwice l E A (d - 1) n (by omega)  e72 am1) rfl ?_
              refine hr_if_eq (x := _) hC 162 dX8_switching_142 (by decide) (fun c76 => ?_) (fun c76 => ?_)
              · rw [if_pos c76] at h
                obtain rfl := Option.some.inj h
                exact hr_sub _ rfl (J61)
              · rw [if_neg c76] at h
                refine hr_aload_n hC dX8_switching_145 rfl ?_
                refine hr_gO 9 hC F8_3 rfl dX8_switching_146 q664 ?_
                refine hr_bipush (v := 10) hC dX8_switching_149 rfl ?_
                refine hr_aload_n hC dX8_switching_151 rfl ?_
                refine hr_gO 6 hC F8_0 rfl dX8_switching_152 q661 ?_
                refine hr_iload_n hC dX8_switching_155 rfl ?_
                obtain ⟨r77, e78, h⟩ := hx_bind h
                refine hs_callV0 hC 6 [_] _ dX8_switching_156 q1593 q1594 q1595 q320 q1596 np_X6 rfl OB_6 pd_X6_place (Nat.le_of_ble_eq_true rfl) hd1 (okX6_place l E A (d - 1)  (by omega)  e78 am1) rfl ?_
                obtain ⟨r81, e82, h⟩ := hx_bind h
                refine hs_callV0 hC 9 [_, _] _ dX8_switching_159 q1597 q1598 q1599 q323 q1600 np_X9 rfl OB_9 pd_X9_say (Nat.le_of_ble_eq_true rfl) hd1 (okX9_say l E A (d - 1)  (by omega)  e82 am1) rfl ?_
                obtain rfl := Option.some.inj h
                exact hr_sub _ rfl (J61)
          refine hr_if_eq (x := _) hC 113 dX8_switching_106 (by decide) (fun c87 => ?_) (fun c87 => ?_)
          · refine hr_iconst (v := 0) hC dX8_switching_113 rfl ?_
            exact hr_sub _ rfl (J85 _ (by first | (rw [if_pos c87]; done) | (simp only [if_pos c87]; done) | rfl))
          · refine hr_iconst (v := 1) hC dX8_switching_109 rfl ?_
            refine hr_goto hC 114 dX8_switching_110 (by decide) ?_
            exact hr_sub _ rfl (J85 _ (by first | (rw [if_neg c87]; done) | (simp only [if_neg c87]; done) | rfl))
        clear h
        have h := e37
        refine hr_icmp_eq (x := _) hC 92 dX8_switching_74 (by decide) (fun c35 => ?_) (fun c35 => ?_)
        · rw [if_pos c35] at h
          refine hr_iconst (v := 1) hC dX8_switching_92 rfl ?_
          refine hr_goto hC 97 dX8_switching_93 (by decide) ?_
          obtain rfl := Option.some.inj h
          exact hr_sub _ rfl (J38)
        · rw [if_neg c35] at h
          refine hr_aload_n hC dX8_switching_77 rfl ?_
          refine hr_aload_n hC dX8_switching_78 rfl ?_
          refine hr_gO 6 hC F8_0 rfl dX8_switching_79 q661 ?_
          refine hr_iload_n hC dX8_switching_82 rfl ?_
          obtain ⟨r40, e41, h⟩ := hx_bind h
          refine hs_callV0 hC 6 [_] _ dX8_switching_83 q1575 q1576 q1577 q320 q1578 np_X6 rfl OB_6 pd_X6_first (Nat.le_of_ble_eq_true rfl) hd1 (okX6_first l E A (d - 1)  (by omega)  e41 am1) rfl ?_
          obtain ⟨r44, e45, h⟩ := hx_bind h
          refine hs_callV0 hC 8 [_] _ dX8_switching_86 q1610 q1612 qs58 q322 q1613 np_X8 rfl OB_8 pd_X8_constant (Nat.le_of_ble_eq_true rfl) hd1 (okX8_constant l E A (d - 1) n k0 (by omega)  e45 am1) rfl ?_
          refine hr_if_eq (x := _) hC 96 dX8_switching_89 (by decide) (fun c49 => ?_) (fun c49 => ?_)
          · rw [if_pos c49] at h
            refine hr_iconst (v := 0) hC dX8_switching_96 rfl ?_
            obtain rfl := Option.some.inj h
            exact hr_sub _ rfl (J38)
          · rw [if_neg c49] at h
            refine hr_iconst (v := 1) hC dX8_switching_92 rfl ?_
            refine hr_goto hC 97 dX8_switching_93 (by decide) ?_
            obtain rfl := Option.some.inj h
            exact hr_sub _ rfl (J38)
      · rw [if_neg c29] at h
        refine hr_iload_n hC dX8_switching_65 rfl ?_
        refine hr_bipush (v := 19) hC dX8_switching_66 rfl ?_
        refine hr_icmp_ne (x := _) hC 165 dX8_switching_68 (by decide) (fun c89 => ?_) (fun c89 => ?_)
        · rw [if_neg c89] at h
          refine hr_aload_n hC dX8_switching_165 rfl ?_
          refine hr_iload_n hC dX8_switching_166 rfl ?_
          obtain ⟨r90, e91, h⟩ := hx_bind h
          refine hs_callV hC 8 [_] _ dX8_switching_167 q1776 q1778 qs83 q322 q1779 np_X8 rfl OB_8 pd_X8_statement (Nat.le_of_ble_eq_true rfl) hd1 (IH _ _ _ _ e91 am1) (hc_rb rfl) rfl (fun am92 ha93 => ?_)
          obtain rfl := Option.some.inj h
          exact hr_sub _ rfl (J32 am92)
        · rw [if_pos c89] at h
          refine hr_iload_n hC dX8_switching_71 rfl ?_
          refine hr_bipush (v := 19) hC dX8_switching_72 rfl ?_
          obtain ⟨r96, e97, h⟩ := hx_bind h
          have J98 : hc_At hc_V0 E 5 X 97 [(0, .ref (E.2.1 8)), (1, .int y1), (2, .int y2)] [.int r96.2] r96.1 am1 [] := by
            refine hr_istore hC dX8_switching_97 (by decide) ?_
            refine hr_aload_n hC dX8_switching_99 rfl ?_
            refine hr_gO 6 hC F8_0 rfl dX8_switching_100 q661 ?_
            refine hr_iload_n hC dX8_switching_103 rfl ?_
            refine hr_iload hC dX8_switching_104 rfl ?_
            obtain ⟨v112, hv112, h⟩ := hl_ok h
            have J145 : ∀ w146 : Int32, (if r96.2 = 0 then 0 else 1) = w146 → hc_At hc_V0 E 5 X 114 [(0, .ref (E.2.1 8)), (1, .int y1), (2, .int y2), (4, .int r96.2)] [.int w146, .int y2, .ref (E.2.1 6)] r96.1 am1 [] := by
              intro w146 hw146
              obtain rfl := hv112.trans hw146
              obtain ⟨r113, e114, h⟩ := hx_bind h
              refine hs_callV0 hC 6 [_, _] _ dX8_switching_114 q1601 q1463 q1464 q320 q1465 np_X6 rfl OB_6 pd_X6_setExtra (Nat.le_of_ble_eq_true rfl) hd1 (okX6_setExtra l E A (d - 1)  (by omega)  e114 am1) rfl ?_
              refine hr_iload hC dX8_switching_117 rfl ?_
              obtain ⟨r119, e120, h⟩ := hx_bind h
              have J121 : hc_At hc_V0 E 5 X 162 [(0, .ref (E.2.1 8)), (1, .int y1), (2, .int y2)] [] r119 am1 [] := by
                refine hr_goto hC 170 dX8_switching_162 (by decide) ?_
                obtain rfl := Option.some.inj h
                exact hr_sub _ rfl (J32 am1)
              clear h
              have h := e120
              refine hr_if_eq (x := _) hC 162 dX8_switching_119 (by decide) (fun c118 => ?_) (fun c118 => ?_)
              · rw [if_pos c118] at h
                obtain rfl := Option.some.inj h
                exact hr_sub _ rfl (J121)
              · rw [if_neg c118] at h
                refine hr_aload_n hC dX8_switching_122 rfl ?_
                refine hr_aload_n hC dX8_switching_123 rfl ?_
                refine hr_gO 6 hC F8_0 rfl dX8_switching_124 q661 ?_
                refine hr_aload_n hC dX8_switching_127 rfl ?_
                refine hr_gO 6 hC F8_0 rfl dX8_switching_128 q661 ?_
                refine hr_iload_n hC dX8_switching_131 rfl ?_
                obtain ⟨r123, e124, h⟩ := hx_bind h
                refine hs_callV0 hC 6 [_] _ dX8_switching_132 q1575 q1576 q1577 q320 q1578 np_X6 rfl OB_6 pd_X6_first (Nat.le_of_ble_eq_true rfl) hd1 (okX6_first l E A (d - 1)  (by omega)  e124 am1) rfl ?_
                obtain ⟨r127, e128, h⟩ := hx_bind h
                refine hs_callV0 hC 6 [_] _ dX8_switching_135 q1602 q1603 q1604 q320 q1605 np_X6 rfl OB_6 pd_X6_next (Nat.le_of_ble_eq_true rfl) hd1 (okX6_next l E A (d - 1)  (by omega)  e128 am1) rfl ?_
                refine hr_iload_n hC dX8_switching_138 rfl ?_
                obtain ⟨r131, e132, h⟩ := hx_bind h
                refine hs_callV0 hC 8 [_, _] _ dX8_switching_139 q1800 q1802 qs88 q322 q1803 np_X8 rfl OB_8 pd_X8_isTwice (Nat.le_of_ble_eq_true rfl) hd1 (okX8_isTwice l E A (d - 1) n (by omega)  e132 am1) rfl ?_
                refine hr_if_eq (x := _) hC 162 dX8_switching_142 (by decide) (fun c136 => ?_) (fun c136 => ?_)
                · rw [if_pos c136] at h
                  obtain rfl := Option.some.inj h
                  exact hr_sub _ rfl (J121)
                · rw [if_neg c136] at h
                  refine hr_aload_n hC dX8_switching_145 rfl ?_
                  refine hr_gO 9 hC F8_3 rfl dX8_switching_146 q664 ?_
                  refine hr_bipush (v := 10) hC dX8_switching_149 rfl ?_
                  refine hr_aload_n hC dX8_switching_151 rfl ?_
                  refine hr_gO 6 hC F8_0 rfl dX8_switching_152 q661 ?_
                  refine hr_iload_n hC dX8_switching_155 rfl ?_
                  obtain ⟨r137, e138, h⟩ := hx_bind h
                  refine hs_callV0 hC 6 [_] _ dX8_switching_156 q1593 q1594 q1595 q320 q1596 np_X6 rfl OB_6 pd_X6_place (Nat.le_of_ble_eq_true rfl) hd1 (okX6_place l E A (d - 1)  (by omega)  e138 am1) rfl ?_
                  obtain ⟨r141, e142, h⟩ := hx_bind h
                  refine hs_callV0 hC 9 [_, _] _ dX8_switching_159 q1597 q1598 q1599 q323 q1600 np_X9 rfl OB_9 pd_X9_say (Nat.le_of_ble_eq_true rfl) hd1 (okX9_say l E A (d - 1)  (by omega)  e142 am1) rfl ?_
                  obtain rfl := Option.some.inj h
                  exact hr_sub _ rfl (J121)
            refine hr_if_eq (x := _) hC 113 dX8_switching_106 (by decide) (fun c147 => ?_) (fun c147 => ?_)
            · refine hr_iconst (v := 0) hC dX8_switching_113 rfl ?_
              exact hr_sub _ rfl (J145 _ (by first | (rw [if_pos c147]; done) | (simp only [if_pos c147]; done) | rfl))
            · refine hr_iconst (v := 1) hC dX8_switching_109 rfl ?_
              refine hr_goto hC 114 dX8_switching_110 (by decide) ?_
              exact hr_sub _ rfl (J145 _ (by first | (rw [if_neg c147]; done) | (simp only [if_neg c147]; done) | rfl))
          clear h
          have h := e97
          refine hr_icmp_eq (x := _) hC 92 dX8_switching_74 (by decide) (fun c95 => ?_) (fun c95 => ?_)
          · rw [if_pos c95] at h
            refine hr_iconst (v := 1) hC dX8_switching_92 rfl ?_
            refine hr_goto hC 97 dX8_switching_93 (by decide) ?_
            obtain rfl := Option.some.inj h
            exact hr_sub _ rfl (J98)
          · rw [if_neg c95] at h
            refine hr_aload_n hC dX8_switching_77 rfl ?_
            refine hr_aload_n hC dX8_switching_78 rfl ?_
            refine hr_gO 6 hC F8_0 rfl dX8_switching_79 q661 ?_
            refine hr_iload_n hC dX8_switching_82 rfl ?_
            obtain ⟨r100, e101, h⟩ := hx_bind h
            refine hs_callV0 hC 6 [_] _ dX8_switching_83 q1575 q1576 q1577 q320 q1578 np_X6 rfl OB_6 pd_X6_first (Nat.le_of_ble_eq_true rfl) hd1 (okX6_first l E A (d - 1)  (by omega)  e101 am1) rfl ?_
            obtain ⟨r104, e105, h⟩ := hx_bind h
            refine hs_callV0 hC 8 [_] _ dX8_switching_86 q1610 q1612 qs58 q322 q1613 np_X8 rfl OB_8 pd_X8_constant (Nat.le_of_ble_eq_true rfl) hd1 (okX8_constant l E A (d - 1) n k0 (by omega)  e105 am1) rfl ?_
            refine hr_if_eq (x := _) hC 96 dX8_switching_89 (by decide) (fun c109 => ?_) (fun c109 => ?_)
            · rw [if_pos c109] at h
              refine hr_iconst (v := 0) hC dX8_switching_96 rfl ?_
              obtain rfl := Option.some.inj h
              exact hr_sub _ rfl (J98)
            · rw [if_neg c109] at h
              refine hr_iconst (v := 1) hC dX8_switching_92 rfl ?_
              refine hr_goto hC 97 dX8_switching_93 (by decide) ?_
              obtain rfl := Option.some.inj h
              exact hr_sub _ rfl (J98)
set_option maxRecDepth 20000 in
set_option maxHeartbeats 4000000 in
theorem okbX8_switching (l : Launch) (E : hc_E) (A : Nat → Prop) (d : Nat) {kk : Nat} (n : Nat) (k0 : Nat) (rec : Nat → List Int32 → hc_St → Option (Int32 × hc_St)) (hD : kk + 2 * k0 + 14 ≤ d) (IH : ∀ (w : Nat) (a : List Int32) (σ : hc_St) (r : (Int32 × hc_St)), rec w a σ = some r → ∀ am, okg_X8_statements l E A (d - 1) am w a σ r) {x1 : Int32} {σ : hc_St} {r : (Int32 × hc_St)} (h : bd_X8_switching n k0 rec x1 σ = some r) (am : Nat → Nat → Nat) : hc_M l hc_V0 yX8_switching (ws_ yX8_switching cX8_switching 5 none) d E A [.ref (E.2.1 8), .int x1] am [10, 11] σ (.inl (none)) r.2 := by
  have hd1 : 1 ≤ d := by omega
  have hd8 : 9 ≤ d := by omega
  have hd12 : 12 ≤ d := by omega
  refine hc_enter2 (own := RX8) [(0, .ref (E.2.1 8)), (1, .int x1)] pl_X8 rfl hc_V0_st hc_G0_nd rfl (Nat.le_of_ble_eq_true rfl) (fun X hC hem => ?_)
  unfold bd_X8_switching at h
  refine hr_aload_n hC dX8_switching_0 rfl ?_
  refine hr_aload_n hC dX8_switching_1 rfl ?_
  refine hr_gO 6 hC F8_0 rfl dX8_switching_2 q661 ?_
  refine hr_iload_n hC dX8_switching_5 rfl ?_
  obtain ⟨r1, e2, h⟩ := hx_bind h
  refine hs_callV0 hC 6 [_] _ dX8_switching_6 q1575 q1576 q1577 q320 q1578 np_X6 rfl OB_6 pd_X6_first (Nat.le_of_ble_eq_true rfl) hd1 (okX6_first l E A (d - 1)  (by omega)  e2 am) rfl ?_
  obtain ⟨r5, e6, h⟩ := hx_bind h
  refine hs_callV0 hC 8 [_] _ dX8_switching_9 q1618 q1620 qs60 q322 q1621 np_X8 rfl OB_8 pd_X8_number (Nat.le_of_ble_eq_true rfl) hd1 (okX8_number l E A (d - 1) n k0 (by omega)  e6 am) rfl ?_
  refine hr_aload_n hC dX8_switching_12 rfl ?_
  refine hr_gO 10 hC F8_4 rfl dX8_switching_13 q665 ?_
  obtain ⟨r9, e10, h⟩ := hx_bind h
  refine hs_callV0 hC 10 [] _ dX8_switching_16 q1768 q1769 q1770 q324 q1771 np_X10 rfl OB_10 pd_X10_open (Nat.le_of_ble_eq_true rfl) hd1 (okX10_open l E A (d - 1)  (by omega)  e10 am) rfl ?_
  refine hr_aload_n hC dX8_switching_19 rfl ?_
  refine hr_dup hC dX8_switching_20 rfl ?_
  refine hr_gI hC F8_13 dX8_switching_21 q674 ?_
  refine hr_iconst (v := 1) hC dX8_switching_24 rfl ?_
  refine hr_iadd hC dX8_switching_25 ?_
  obtain ⟨σ13, hσ13, h⟩ := hl_ok h
  refine hr_pI hC F8_13 PX8_13 dX8_switching_26 q674 ?_
  rw [← hσ13]
  refine hr_aload_n hC dX8_switching_29 rfl ?_
  refine hr_gO 6 hC F8_0 rfl dX8_switching_30 q661 ?_
  refine hr_aload_n hC dX8_switching_33 rfl ?_
  refine hr_gO 6 hC F8_0 rfl dX8_switching_34 q661 ?_
  refine hr_iload_n hC dX8_switching_37 rfl ?_
  obtain ⟨r14, e15, h⟩ := hx_bind h
  refine hs_callV0 hC 6 [_] _ dX8_switching_38 q1575 q1576 q1577 q320 q1578 np_X6 rfl OB_6 pd_X6_first (Nat.le_of_ble_eq_true rfl) hd1 (okX6_first l E A (d - 1)  (by omega)  e15 am) rfl ?_
  obtain ⟨r18, e19, h⟩ := hx_bind h
  refine hs_callV0 hC 6 [_] _ dX8_switching_41 q1602 q1603 q1604 q320 q1605 np_X6 rfl OB_6 pd_X6_next (Nat.le_of_ble_eq_true rfl) hd1 (okX6_next l E A (d - 1)  (by omega)  e19 am) rfl ?_
  refine hr_istore_n hC dX8_switching_44 (by decide) ?_
  obtain ⟨r153, e154, h⟩ := hx_bind h
  refine hr_sub _ rfl (ll_X8_switching_45 n k0 rec hD hem IH hC n _ _ _ _ e154 (fun am157 => ?_) am)
  refine hr_aload_n hC dX8_switching_182 rfl ?_
  refine hr_dup hC dX8_switching_183 rfl ?_
  refine hr_gI hC F8_13 dX8_switching_184 q674 ?_
  refine hr_iconst (v := 1) hC dX8_switching_187 rfl ?_
  refine hr_isub hC dX8_switching_188 ?_
  obtain ⟨σ158, hσ158, h⟩ := hl_ok h
  refine hr_pI hC F8_13 PX8_13 dX8_switching_189 q674 ?_
  rw [← hσ158]
  refine hr_aload_n hC dX8_switching_192 rfl ?_
  refine hr_gO 10 hC F8_4 rfl dX8_switching_193 q665 ?_
  obtain ⟨r159, e160, h⟩ := hx_bind h
  refine hs_callV0 hC 10 [] _ dX8_switching_196 q1780 q1781 q1782 q324 q1783 np_X10 rfl OB_10 pd_X10_close (Nat.le_of_ble_eq_true rfl) hd1 (okX10_close l E A (d - 1) n (by omega)  e160 am157) rfl ?_
  obtain rfl := Option.some.inj h
  exact hr_vret hC dX8_switching_199
def rc_X8_statements (n : Nat) (k0 : Nat) : Nat → Nat → List Int32 → hc_St → Option (Int32 × hc_St)
  | 0, _, _, _ => none
  | k + 1, w, a, σ => match w with
    | 0 => bd_X8_statements n k0 (rc_X8_statements n k0 k) (a.getD 0 0) σ
    | 1 => bd_X8_statement n k0 (rc_X8_statements n k0 k) (a.getD 0 0) σ
    | 2 => bd_X8_body n k0 (rc_X8_statements n k0 k) (a.getD 0 0) σ
    | 3 => bd_X8_counting n k0 (rc_X8_statements n k0 k) (a.getD 0 0) σ
    | 4 => bd_X8_switching n k0 (rc_X8_statements n k0 k) (a.getD 0 0) σ
    | _ => none
theorem okr_X8_statements (l : Launch) (E : hc_E) (A : Nat → Prop) (n : Nat) (k0 : Nat) : ∀ (k d : Nat), k + 2 * k0 + 14 ≤ d → ∀ (w : Nat) (a : List Int32) (σ : hc_St) (r : (Int32 × hc_St)), rc_X8_statements n k0 k w a σ = some r → ∀ am, okg_X8_statements l E A d am w a σ r
  | 0, d, _, w, a, σ, r, h, am => by cases h
  | k + 1, d, hd, w, a, σ, r, h, am => by
    have IH := okr_X8_statements l E A n k0 k (d - 1) (by omega)
    match w, h with
    | 0, h => exact okbX8_statements l E A d (kk := k) n k0 (rc_X8_statements n k0 k) (by omega) IH h am
    | 1, h => exact okbX8_statement l E A d (kk := k) n k0 (rc_X8_statements n k0 k) (by omega) IH h am
    | 2, h => exact okbX8_body l E A d (kk := k) n k0 (rc_X8_statements n k0 k) (by omega) IH h am
    | 3, h => exact okbX8_counting l E A d (kk := k) n k0 (rc_X8_statements n k0 k) (by omega) IH h am
    | 4, h => exact okbX8_switching l E A d (kk := k) n k0 (rc_X8_statements n k0 k) (by omega) IH h am
    | w + 5, h => trivial
def fm_X8_statements (n : Nat) (k0 : Nat) (x1 : Int32) (σ : hc_St) : Option (Int32 × hc_St) := rc_X8_statements n k0 k0 0 [x1] σ
theorem okX8_statements (l : Launch) (E : hc_E) (A : Nat → Prop) (d : Nat) (n : Nat) (k0 : Nat) (hD : k0 + 2 * k0 + 14 ≤ d)  {x1 : Int32} {σ : hc_St} {r : (Int32 × hc_St)} (h : fm_X8_statements n k0 x1 σ = some r) (am : Nat → Nat → Nat) : hc_M l hc_V0 yX8_statements (ws_ yX8_statements cX8_statements 3 none) d E A [.ref (E.2.1 8), .int x1] am [10, 11] σ (.inl (none)) r.2 := okr_X8_statements l E A n k0 k0 d hD 0 _ _ _ h am
def fm_X8_statement (n : Nat) (k0 : Nat) (x1 : Int32) (σ : hc_St) : Option (Int32 × hc_St) := rc_X8_statements n k0 k0 1 [x1] σ
theorem okX8_statement (l : Launch) (E : hc_E) (A : Nat → Prop) (d : Nat) (n : Nat) (k0 : Nat) (hD : k0 + 2 * k0 + 14 ≤ d)  {x1 : Int32} {σ : hc_St} {r : (Int32 × hc_St)} (h : fm_X8_statement n k0 x1 σ = some r) (am : Nat → Nat → Nat) : hc_M l hc_V0 yX8_statement (ws_ yX8_statement cX8_statement 3 none) d E A [.ref (E.2.1 8), .int x1] am [10, 11] σ (.inl (none)) r.2 := okr_X8_statements l E A n k0 k0 d hD 1 _ _ _ h am
def fm_X8_body (n : Nat) (k0 : Nat) (x1 : Int32) (σ : hc_St) : Option (Int32 × hc_St) := rc_X8_statements n k0 k0 2 [x1] σ
theorem okX8_body (l : Launch) (E : hc_E) (A : Nat → Prop) (d : Nat) (n : Nat) (k0 : Nat) (hD : k0 + 2 * k0 + 14 ≤ d)  {x1 : Int32} {σ : hc_St} {r : (Int32 × hc_St)} (h : fm_X8_body n k0 x1 σ = some r) (am : Nat → Nat → Nat) : hc_M l hc_V0 yX8_body (ws_ yX8_body cX8_body 2 none) d E A [.ref (E.2.1 8), .int x1] am [10, 11] σ (.inl (none)) r.2 := okr_X8_statements l E A n k0 k0 d hD 2 _ _ _ h am
def fm_X8_counting (n : Nat) (k0 : Nat) (x1 : Int32) (σ : hc_St) : Option (Int32 × hc_St) := rc_X8_statements n k0 k0 3 [x1] σ
theorem okX8_counting (l : Launch) (E : hc_E) (A : Nat → Prop) (d : Nat) (n : Nat) (k0 : Nat) (hD : k0 + 2 * k0 + 14 ≤ d)  {x1 : Int32} {σ : hc_St} {r : (Int32 × hc_St)} (h : fm_X8_counting n k0 x1 σ = some r) (am : Nat → Nat → Nat) : hc_M l hc_V0 yX8_counting (ws_ yX8_counting cX8_counting 4 none) d E A [.ref (E.2.1 8), .int x1] am [10, 11] σ (.inl (none)) r.2 := okr_X8_statements l E A n k0 k0 d hD 3 _ _ _ h am
def fm_X8_switching (n : Nat) (k0 : Nat) (x1 : Int32) (σ : hc_St) : Option (Int32 × hc_St) := rc_X8_statements n k0 k0 4 [x1] σ
theorem okX8_switching (l : Launch) (E : hc_E) (A : Nat → Prop) (d : Nat) (n : Nat) (k0 : Nat) (hD : k0 + 2 * k0 + 14 ≤ d)  {x1 : Int32} {σ : hc_St} {r : (Int32 × hc_St)} (h : fm_X8_switching n k0 x1 σ = some r) (am : Nat → Nat → Nat) : hc_M l hc_V0 yX8_switching (ws_ yX8_switching cX8_switching 5 none) d E A [.ref (E.2.1 8), .int x1] am [10, 11] σ (.inl (none)) r.2 := okr_X8_statements l E A n k0 k0 d hD 4 _ _ _ h am
/-- HomeCompiler$Checker.isArray(I)Z -/
def fm_X8_isArray  (x1 : Int32) (σ : hc_St) : Option Int32 := Option.bind (fm_X6_kind x1 σ) fun r1 => Option.bind (α := Int32) (if r1 = 38 then (Option.bind (fm_X6_extra x1 σ) fun r11 => if r11 < 0 then (some (0)) else (Option.bind (fm_X6_extra x1 σ) fun r17 => Option.bind (fm_X11_size r17 σ) fun r21 => if r21 = 0 then (some (0)) else (some (1)))) else (some (0))) fun r7 => hk (hb01 r7) <| some r7
set_option maxRecDepth 20000 in
set_option maxHeartbeats 4000000 in
theorem okX8_isArray (l : Launch) (E : hc_E) (A : Nat → Prop) (d : Nat)  (hD : 2 ≤ d) {x1 : Int32} {σ : hc_St} {r : Int32} (h : fm_X8_isArray  x1 σ = some r) (am : Nat → Nat → Nat) : hc_M l hc_V0 yX8_isArray (ws_ yX8_isArray cX8_isArray 2 (some .boolean)) d E A [.ref (E.2.1 8), .int x1] am [] σ (.inl (some (.int r))) σ := by
  have hd1 : 1 ≤ d := by omega
  refine hc_enter2 (own := RX8) [(0, .ref (E.2.1 8)), (1, .int x1)] pl_X8 rfl hc_V0_st hc_G0_nd rfl (Nat.le_of_ble_eq_true rfl) (fun X hC hem => ?_)
  unfold fm_X8_isArray at h
  refine hr_aload_n hC dX8_isArray_0 rfl ?_
  refine hr_gO 6 hC F8_0 rfl dX8_isArray_1 q661 ?_
  refine hr_iload_n hC dX8_isArray_4 rfl ?_
  obtain ⟨r1, e2, h⟩ := hx_bind h
  refine hs_callV0 hC 6 [_] _ dX8_isArray_5 q1579 q1369 q1370 q320 q1371 np_X6 rfl OB_6 pd_X6_kind (Nat.le_of_ble_eq_true rfl) hd1 (okX6_kind l E A (d - 1)  (by omega)  e2 am) rfl ?_
  refine hr_bipush (v := 38) hC dX8_isArray_8 rfl ?_
  obtain ⟨r7, e8, h⟩ := hx_bind h
  have J9 : hc_At hc_V0 E 2 X 47 [] [.int r7] σ am [] := by
    obtain ⟨c27, h⟩ := hk_ok h
    obtain rfl := Option.some.inj h
    exact hr_zret hC (hb01_n c27) dX8_isArray_47
  clear h
  have h := e8
  refine hr_icmp_ne (x := _) hC 46 dX8_isArray_10 (by decide) (fun c6 => ?_) (fun c6 => ?_)
  · rw [if_neg c6] at h
    refine hr_iconst (v := 0) hC dX8_isArray_46 rfl ?_
    obtain rfl := Option.some.inj h
    exact hr_sub _ rfl (J9)
  · rw [if_pos c6] at h
    refine hr_aload_n hC dX8_isArray_13 rfl ?_
    refine hr_gO 6 hC F8_0 rfl dX8_isArray_14 q661 ?_
    refine hr_iload_n hC dX8_isArray_17 rfl ?_
    obtain ⟨r11, e12, h⟩ := hx_bind h
    refine hs_callV0 hC 6 [_] _ dX8_isArray_18 q1686 q1687 q1688 q320 q1689 np_X6 rfl OB_6 pd_X6_extra (Nat.le_of_ble_eq_true rfl) hd1 (okX6_extra l E A (d - 1)  (by omega)  e12 am) rfl ?_
    refine hr_if_lt (x := _) hC 46 dX8_isArray_21 (by decide) (fun c16 => ?_) (fun c16 => ?_)
    · rw [if_pos c16] at h
      refine hr_iconst (v := 0) hC dX8_isArray_46 rfl ?_
      obtain rfl := Option.some.inj h
      exact hr_sub _ rfl (J9)
    · rw [if_neg c16] at h
      refine hr_aload_n hC dX8_isArray_24 rfl ?_
      refine hr_gO 11 hC F8_5 rfl dX8_isArray_25 q666 ?_
      refine hr_aload_n hC dX8_isArray_28 rfl ?_
      refine hr_gO 6 hC F8_0 rfl dX8_isArray_29 q661 ?_
      refine hr_iload_n hC dX8_isArray_32 rfl ?_
      obtain ⟨r17, e18, h⟩ := hx_bind h
      refine hs_callV0 hC 6 [_] _ dX8_isArray_33 q1686 q1687 q1688 q320 q1689 np_X6 rfl OB_6 pd_X6_extra (Nat.le_of_ble_eq_true rfl) hd1 (okX6_extra l E A (d - 1)  (by omega)  e18 am) rfl ?_
      obtain ⟨r21, e22, h⟩ := hx_bind h
      refine hs_callV0 hC 11 [_] _ dX8_isArray_36 q1654 q1655 q1656 q325 q1657 np_X11 rfl OB_11 pd_X11_size (Nat.le_of_ble_eq_true rfl) hd1 (okX11_size l E A (d - 1)  (by omega)  e22 am) rfl ?_
      refine hr_if_eq (x := _) hC 46 dX8_isArray_39 (by decide) (fun c26 => ?_) (fun c26 => ?_)
      · rw [if_pos c26] at h
        refine hr_iconst (v := 0) hC dX8_isArray_46 rfl ?_
        obtain rfl := Option.some.inj h
        exact hr_sub _ rfl (J9)
      · rw [if_neg c26] at h
        refine hr_iconst (v := 1) hC dX8_isArray_42 rfl ?_
        refine hr_goto hC 47 dX8_isArray_43 (by decide) ?_
        obtain rfl := Option.some.inj h
        exact hr_sub _ rfl (J9)
/-- HomeCompiler$Words.isTold(I)Z -/
def fm_X2_isTold  (x0 : Int32) (σ : hc_St) : Option Int32 := hl (α := Int32) ((if x0 = 12 then 1 else (if x0 = 13 then 1 else 0))) fun v3 => hk (hb01 v3) <| some v3
set_option maxRecDepth 20000 in
set_option maxHeartbeats 4000000 in
theorem okX2_isTold (l : Launch) (E : hc_E) (A : Nat → Prop) (d : Nat)  (hD : 1 ≤ d) {x0 : Int32} {σ : hc_St} {r : Int32} (h : fm_X2_isTold  x0 σ = some r) (am : Nat → Nat → Nat) : hc_M l hc_V0 yX2_isTold (ws_ yX2_isTold cX2_isTold 1 (some .boolean)) d E A [.int x0] am [] σ (.inl (some (.int r))) σ := by
  have hd1 : 1 ≤ d := by omega
  refine hc_enter2 (own := RX2) [(0, .int x0)] pl_X2 rfl hc_V0_st hc_G0_nd rfl (Nat.le_of_ble_eq_true rfl) (fun X hC hem => ?_)
  unfold fm_X2_isTold at h
  refine hr_iload_n hC dX2_isTold_0 rfl ?_
  refine hr_bipush (v := 12) hC dX2_isTold_1 rfl ?_
  obtain ⟨v3, hv3, h⟩ := hl_ok h
  have J5 : ∀ w6 : Int32, (if x0 = 12 then 1 else (if x0 = 13 then 1 else 0)) = w6 → hc_At hc_V0 E 1 X 17 [] [.int w6] σ am [] := by
    intro w6 hw6
    obtain rfl := hv3.trans hw6
    obtain ⟨c4, h⟩ := hk_ok h
    obtain rfl := Option.some.inj h
    exact hr_zret hC (hb01_n c4) dX2_isTold_17
  refine hr_icmp_eq (x := _) hC 12 dX2_isTold_3 (by decide) (fun c7 => ?_) (fun c7 => ?_)
  · refine hr_iconst (v := 1) hC dX2_isTold_12 rfl ?_
    refine hr_goto hC 17 dX2_isTold_13 (by decide) ?_
    exact hr_sub _ rfl (J5 _ (by first | (rw [if_pos c7]; done) | (simp only [if_pos c7]; done) | rfl))
  · refine hr_iload_n hC dX2_isTold_6 rfl ?_
    refine hr_bipush (v := 13) hC dX2_isTold_7 rfl ?_
    refine hr_icmp_ne (x := _) hC 16 dX2_isTold_9 (by decide) (fun c8 => ?_) (fun c8 => ?_)
    · refine hr_iconst (v := 0) hC dX2_isTold_16 rfl ?_
      exact hr_sub _ rfl (J5 _ (by first | (rw [if_neg c7, if_neg c8]; done) | (simp only [if_neg c7, if_neg c8]; done) | rfl))
    · refine hr_iconst (v := 1) hC dX2_isTold_12 rfl ?_
      refine hr_goto hC 17 dX2_isTold_13 (by decide) ?_
      exact hr_sub _ rfl (J5 _ (by first | (rw [if_neg c7, if_pos c8]; done) | (simp only [if_neg c7, if_pos c8]; done) | rfl))
def okg_X8_height (l : Launch) (E : hc_E) (A : Nat → Prop) (d : Nat) (am : Nat → Nat → Nat) (w : Nat) (a : List Int32) (σ : hc_St) (r : (Int32 × hc_St)) : Prop := match w with
  | 0 => hc_M l hc_V0 yX8_height (ws_ yX8_height cX8_height 8 (some .int)) d E A [.ref (E.2.1 8), .int (a.getD 0 0)] am [] σ (.inl (some (.int r.1))) r.2
  | _ => True
def lp_X8_height_272 (n : Nat) (k0 : Nat) (rec : Nat → List Int32 → hc_St → Option (Int32 × hc_St)) : Nat → Int32 → Int32 → hc_St → Option (hc_St × Int32)
  | 0, _, _, _ => none
  | m + 1, y3, y5, σ => if y5 = (-1) then (some (σ, y3)) else (Option.bind (rec 0 [y5] σ) fun r11 => Option.bind (fm_X6_next y5 r11.2) fun r16 => lp_X8_height_272 n k0 rec m ((jmax y3 r11.1)) r16 r11.2)
def lp_X8_height_178 (n : Nat) (k0 : Nat) (rec : Nat → List Int32 → hc_St → Option (Int32 × hc_St)) : Nat → Int32 → Int32 → hc_St → Option (hc_St × Int32)
  | 0, _, _, _ => none
  | m + 1, y3, y5, σ => if y5 = (-1) then (some (σ, y3)) else (Option.bind (fm_X6_first y5 σ) fun r62 => Option.bind (rec 0 [r62] σ) fun r66 => Option.bind (fm_X6_next y5 r66.2) fun r71 => lp_X8_height_178 n k0 rec m ((jmax y3 ((1 + r66.1)))) r71 r66.2)
def lp_X8_height_58 (n : Nat) (k0 : Nat) (rec : Nat → List Int32 → hc_St → Option (Int32 × hc_St)) : Nat → Int32 → Int32 → Int32 → Int32 → Int32 → hc_St → Option (hc_St × Int32)
  | 0, _, _, _, _, _, _ => none
  | m + 1, y1, y2, y3, y4, y5, σ => if y5 = (-1) then (some (σ, y3)) else (Option.bind (fm_X8_isArray y5 σ) fun r82 => Option.bind (α := Int32) (if y5 = y2 then (Option.bind (fm_X6_extra y1 σ) fun r92 => Option.bind (fm_X2_isTold r92 σ) fun r96 => if r96 = 0 then (some (0)) else (some (1))) else (some (0))) fun r88 => Option.bind (α := hc_St × Int32) (if r82 = 0 then (if r88 = 0 then (Option.bind (rec 0 [y5] σ) fun r110 => some (r110.2, r110.1)) else (some (σ, 1))) else (some (σ, 2))) fun r104 => hl (α := Int32) ((if r82 = 0 then 1 else 2)) fun v117 => Option.bind (fm_X6_next y5 r104.1) fun r118 => lp_X8_height_58 n k0 rec m y1 y2 ((jmax y3 ((y4 + r104.2)))) ((y4 + v117)) r118 r104.1)
/-- HomeCompiler$Checker.height(I)I -/
def bd_X8_height (n : Nat) (k0 : Nat) (rec : Nat → List Int32 → hc_St → Option (Int32 × hc_St)) (x1 : Int32) (σ : hc_St) : Option (Int32 × hc_St) := Option.bind (fm_X6_first x1 σ) fun r1 => Option.bind (fm_X6_kind x1 σ) fun r5 => if r5 = 30 then (Option.bind (fm_X6_next r1 σ) fun r25 => Option.bind (rec 0 [r25] σ) fun r29 => Option.bind (fm_X6_kind r1 r29.2) fun r33 => Option.bind (α := hc_St × Int32) (if r33 = 40 then (Option.bind (fm_X6_first r1 r29.2) fun r43 => Option.bind (rec 0 [r43] r29.2) fun r47 => some (r47.2, (jmax r47.1 ((1 + r29.1))))) else (some (r29.2, r29.1))) fun r39 => some (r39.2, r39.1)) else if r5 = 32 then (Option.bind (rec 0 [r1] σ) fun r52 => Option.bind (fm_X6_next r1 r52.2) fun r56 => Option.bind (lp_X8_height_178 n k0 rec n r52.1 r56 r52.2) fun r75 => some (r75.2, r75.1)) else if r5 = 39 then (Option.bind (lp_X8_height_58 n k0 rec n x1 r1 1 0 r1 σ) fun r125 => some (r125.2, r125.1)) else (Option.bind (lp_X8_height_272 n k0 rec n 1 r1 σ) fun r20 => some (r20.2, r20.1))
set_option maxRecDepth 20000 in
set_option maxHeartbeats 4000000 in
theorem ll_X8_height_272 {l : Launch} {E : hc_E} {A : Nat → Prop} {am : Nat → Nat → Nat} {d : Nat} {kk : Nat} {X : hc_X} (n : Nat) (k0 : Nat) (rec : Nat → List Int32 → hc_St → Option (Int32 × hc_St)) (hD : kk + 3 ≤ d) (hem : X.2.2.2.2.2.2.2.2.2.1.exceptionTable.isEmpty = true) (IH : ∀ (w : Nat) (a : List Int32) (σ : hc_St) (r : (Int32 × hc_St)), rec w a σ = some r → ∀ am, okg_X8_height l E A (d - 1) am w a σ r) {oc : hc_Oc} {σe : hc_St} (hC : hc_C hc_V0 E cX8_height 8 RX8 (some .int) d oc σe (l, A, am, []) X) : ∀ (m : Nat) (σ : hc_St) (y3 : Int32) (y5 : Int32) (rl : hc_St × Int32) (am1 : Nat → Nat → Nat), lp_X8_height_272 n k0 rec m y3 y5 σ = some rl → (hc_At hc_V0 E 8 X 303 [(3, .int rl.2)] [] rl.1 am1 []) → hc_At hc_V0 E 8 X 272 [(0, .ref (E.2.1 8)), (3, .int y3), (5, .int y5)] [] σ am1 [] := by
  have hd1 : 1 ≤ d := by omega
  intro m
  induction m with
  | zero =>
    intro σ y3 y5 rl am1 h
    cases h
  | succ m ih =>
    intro σ y3 y5 rl am1 h JX
    rw [lp_X8_height_272] at h
    refine hr_iload hC dX8_height_272 rfl ?_
    refine hr_iconst (v := (-1)) hC dX8_height_274 rfl ?_
    refine hr_icmp_eq (x := _) hC 303 dX8_height_275 (by decide) (fun c10 => ?_) (fun c10 => ?_)
    · rw [if_pos c10] at h
      obtain rfl := Option.some.inj h
      exact hr_sub _ rfl (JX)
    · rw [if_neg c10] at h
      refine hr_iload_n hC dX8_height_278 rfl ?_
      refine hr_aload_n hC dX8_height_279 rfl ?_
      refine hr_iload hC dX8_height_280 rfl ?_
      obtain ⟨r11, e12, h⟩ := hx_bind h
      refine hs_callV0 hC 8 [_] _ dX8_height_282 q1812 q1814 qs91 q322 q1815 np_X8 rfl OB_8 pd_X8_height (Nat.le_of_ble_eq_true rfl) hd1 (IH _ _ _ _ e12 am1) rfl ?_
      refine hr_max hC dX8_height_285 q1702 hd1 (Nat.le_of_ble_eq_true rfl) ?_
      refine hr_istore_n hC dX8_height_288 (by decide) ?_
      refine hr_aload_n hC dX8_height_289 rfl ?_
      refine hr_gO 6 hC F8_0 rfl dX8_height_290 q661 ?_
      refine hr_iload hC dX8_height_293 rfl ?_
      obtain ⟨r16, e17, h⟩ := hx_bind h
      refine hs_callV0 hC 6 [_] _ dX8_height_295 q1602 q1603 q1604 q320 q1605 np_X6 rfl OB_6 pd_X6_next (Nat.le_of_ble_eq_true rfl) hd1 (okX6_next l E A (d - 1)  (by omega)  e17 am1) rfl ?_
      refine hr_istore hC dX8_height_298 (by decide) ?_
      refine hr_goto hC 272 dX8_height_300 (by decide) ?_
      exact hr_sub _ rfl (ih _ _ _ _ am1 h JX)
set_option maxRecDepth 20000 in
set_option maxHeartbeats 4000000 in
theorem ll_X8_height_178 {l : Launch} {E : hc_E} {A : Nat → Prop} {am : Nat → Nat → Nat} {d : Nat} {kk : Nat} {X : hc_X} (n : Nat) (k0 : Nat) (rec : Nat → List Int32 → hc_St → Option (Int32 × hc_St)) (hD : kk + 3 ≤ d) (hem : X.2.2.2.2.2.2.2.2.2.1.exceptionTable.isEmpty = true) (IH : ∀ (w : Nat) (a : List Int32) (σ : hc_St) (r : (Int32 × hc_St)), rec w a σ = some r → ∀ am, okg_X8_height l E A (d - 1) am w a σ r) {oc : hc_Oc} {σe : hc_St} (hC : hc_C hc_V0 E cX8_height 8 RX8 (some .int) d oc σe (l, A, am, []) X) : ∀ (m : Nat) (σ : hc_St) (y3 : Int32) (y5 : Int32) (rl : hc_St × Int32) (am1 : Nat → Nat → Nat), lp_X8_height_178 n k0 rec m y3 y5 σ = some rl → (hc_At hc_V0 E 8 X 218 [(3, .int rl.2)] [] rl.1 am1 []) → hc_At hc_V0 E 8 X 178 [(0, .ref (E.2.1 8)), (3, .int y3), (5, .int y5)] [] σ am1 [] := by
  have hd1 : 1 ≤ d := by omega
  intro m
  induction m with
  | zero =>
    intro σ y3 y5 rl am1 h
    cases h
  | succ m ih =>
    intro σ y3 y5 rl am1 h JX
    rw [lp_X8_height_178] at h
    refine hr_iload hC dX8_height_178 rfl ?_
    refine hr_iconst (v := (-1)) hC dX8_height_180 rfl ?_
    refine hr_icmp_eq (x := _) hC 218 dX8_height_181 (by decide) (fun c61 => ?_) (fun c61 => ?_)
    · rw [if_pos c61] at h
      obtain rfl := Option.some.inj h
      exact hr_sub _ rfl (JX)
    · rw [if_neg c61] at h
      refine hr_iload_n hC dX8_height_184 rfl ?_
      refine hr_iconst (v := 1) hC dX8_height_185 rfl ?_
      refine hr_aload_n hC dX8_height_186 rfl ?_
      refine hr_aload_n hC dX8_height_187 rfl ?_
      refine hr_gO 6 hC F8_0 rfl dX8_height_188 q661 ?_
      refine hr_iload hC dX8_height_191 rfl ?_
      obtain ⟨r62, e63, h⟩ := hx_bind h
      refine hs_callV0 hC 6 [_] _ dX8_height_193 q1575 q1576 q1577 q320 q1578 np_X6 rfl OB_6 pd_X6_first (Nat.le_of_ble_eq_true rfl) hd1 (okX6_first l E A (d - 1)  (by omega)  e63 am1) rfl ?_
      obtain ⟨r66, e67, h⟩ := hx_bind h
      refine hs_callV0 hC 8 [_] _ dX8_height_196 q1812 q1814 qs91 q322 q1815 np_X8 rfl OB_8 pd_X8_height (Nat.le_of_ble_eq_true rfl) hd1 (IH _ _ _ _ e67 am1) rfl ?_
      refine hr_iadd hC dX8_height_199 ?_
      refine hr_max hC dX8_height_200 q1702 hd1 (Nat.le_of_ble_eq_true rfl) ?_
      refine hr_istore_n hC dX8_height_203 (by decide) ?_
      refine hr_aload_n hC dX8_height_204 rfl ?_
      refine hr_gO 6 hC F8_0 rfl dX8_height_205 q661 ?_
      refine hr_iload hC dX8_height_208 rfl ?_
      obtain ⟨r71, e72, h⟩ := hx_bind h
      refine hs_callV0 hC 6 [_] _ dX8_height_210 q1602 q1603 q1604 q320 q1605 np_X6 rfl OB_6 pd_X6_next (Nat.le_of_ble_eq_true rfl) hd1 (okX6_next l E A (d - 1)  (by omega)  e72 am1) rfl ?_
      refine hr_istore hC dX8_height_213 (by decide) ?_
      refine hr_goto hC 178 dX8_height_215 (by decide) ?_
      exact hr_sub _ rfl (ih _ _ _ _ am1 h JX)
set_option maxRecDepth 20000 in
set_option maxHeartbeats 4000000 in
theorem ll_X8_height_58 {l : Launch} {E : hc_E} {A : Nat → Prop} {am : Nat → Nat → Nat} {d : Nat} {kk : Nat} {X : hc_X} (n : Nat) (k0 : Nat) (rec : Nat → List Int32 → hc_St → Option (Int32 × hc_St)) (hD : kk + 3 ≤ d) (hem : X.2.2.2.2.2.2.2.2.2.1.exceptionTable.isEmpty = true) (IH : ∀ (w : Nat) (a : List Int32) (σ : hc_St) (r : (Int32 × hc_St)), rec w a σ = some r → ∀ am, okg_X8_height l E A (d - 1) am w a σ r) {oc : hc_Oc} {σe : hc_St} (hC : hc_C hc_V0 E cX8_height 8 RX8 (some .int) d oc σe (l, A, am, []) X) : ∀ (m : Nat) (σ : hc_St) (y1 : Int32) (y2 : Int32) (y3 : Int32) (y4 : Int32) (y5 : Int32) (rl : hc_St × Int32) (am1 : Nat → Nat → Nat), lp_X8_height_58 n k0 rec m y1 y2 y3 y4 y5 σ = some rl → (hc_At hc_V0 E 8 X 160 [(3, .int rl.2)] [] rl.1 am1 []) → hc_At hc_V0 E 8 X 58 [(0, .ref (E.2.1 8)), (1, .int y1), (2, .int y2), (3, .int y3), (4, .int y4), (5, .int y5)] [] σ am1 [] := by
  have hd1 : 1 ≤ d := by omega
  intro m
  induction m with
  | zero =>
    intro σ y1 y2 y3 y4 y5 rl am1 h
    cases h
  | succ m ih =>
    intro σ y1 y2 y3 y4 y5 rl am1 h JX
    rw [lp_X8_height_58] at h
    refine hr_iload hC dX8_height_58 rfl ?_
    refine hr_iconst (v := (-1)) hC dX8_height_60 rfl ?_
    refine hr_icmp_eq (x := _) hC 160 dX8_height_61 (by decide) (fun c81 => ?_) (fun c81 => ?_)
    · rw [if_pos c81] at h
      obtain rfl := Option.some.inj h
      exact hr_sub _ rfl (JX)
    · rw [if_neg c81] at h
      refine hr_aload_n hC dX8_height_64 rfl ?_
      refine hr_iload hC dX8_height_65 rfl ?_
      obtain ⟨r82, e83, h⟩ := hx_bind h
      refine hs_callV0 hC 8 [_] _ dX8_height_67 q1816 q1818 qs92 q322 q1819 np_X8 rfl OB_8 pd_X8_isArray (Nat.le_of_ble_eq_true rfl) hd1 (okX8_isArray l E A (d - 1)  (by omega)  e83 am1) rfl ?_
      refine hr_istore hC dX8_height_70 (by decide) ?_
      refine hr_iload hC dX8_height_72 rfl ?_
      refine hr_iload_n hC dX8_height_74 rfl ?_
      obtain ⟨r88, e89, h⟩ := hx_bind h
      have J90 : hc_At hc_V0 E 8 X 97 [(0, .ref (E.2.1 8)), (1, .int y1), (2, .int y2), (3, .int y3), (4, .int y4), (5, .int y5), (6, .int r82)] [.int r88] σ am1 [] := by
        refine hr_istore hC dX8_height_97 (by decide) ?_
        refine hr_iload_n hC dX8_height_99 rfl ?_
        refine hr_iload hC dX8_height_100 rfl ?_
        refine hr_iload hC dX8_height_102 rfl ?_
        obtain ⟨r104, e105, h⟩ := hx_bind h
        have J106 : hc_At hc_V0 E 8 X 126 [(0, .ref (E.2.1 8)), (1, .int y1), (2, .int y2), (4, .int y4), (5, .int y5), (6, .int r82)] [.int r104.2, .int y4, .int y3] r104.1 am1 [] := by
          refine hr_iadd hC dX8_height_126 ?_
          refine hr_max hC dX8_height_127 q1702 hd1 (Nat.le_of_ble_eq_true rfl) ?_
          refine hr_istore_n hC dX8_height_130 (by decide) ?_
          refine hr_iload hC dX8_height_131 rfl ?_
          refine hr_iload hC dX8_height_133 rfl ?_
          obtain ⟨v117, hv117, h⟩ := hl_ok h
          have J122 : ∀ w123 : Int32, (if r82 = 0 then 1 else 2) = w123 → hc_At hc_V0 E 8 X 143 [(0, .ref (E.2.1 8)), (1, .int y1), (2, .int y2), (3, .int (jmax y3 ((y4 + r104.2)))), (5, .int y5)] [.int w123, .int y4] r104.1 am1 [] := by
            intro w123 hw123
            obtain rfl := hv117.trans hw123
            refine hr_iadd hC dX8_height_143 ?_
            refine hr_istore hC dX8_height_144 (by decide) ?_
            refine hr_aload_n hC dX8_height_146 rfl ?_
            refine hr_gO 6 hC F8_0 rfl dX8_height_147 q661 ?_
            refine hr_iload hC dX8_height_150 rfl ?_
            obtain ⟨r118, e119, h⟩ := hx_bind h
            refine hs_callV0 hC 6 [_] _ dX8_height_152 q1602 q1603 q1604 q320 q1605 np_X6 rfl OB_6 pd_X6_next (Nat.le_of_ble_eq_true rfl) hd1 (okX6_next l E A (d - 1)  (by omega)  e119 am1) rfl ?_
            refine hr_istore hC dX8_height_155 (by decide) ?_
            refine hr_goto hC 58 dX8_height_157 (by decide) ?_
            exact hr_sub _ rfl (ih _ _ _ _ _ _ _ am1 h JX)
          refine hr_if_eq (x := _) hC 142 dX8_height_135 (by decide) (fun c124 => ?_) (fun c124 => ?_)
          · refine hr_iconst (v := 1) hC dX8_height_142 rfl ?_
            exact hr_sub _ rfl (J122 _ (by first | (rw [if_pos c124]; done) | (simp only [if_pos c124]; done) | rfl))
          · refine hr_iconst (v := 2) hC dX8_height_138 rfl ?_
            refine hr_goto hC 143 dX8_height_139 (by decide) ?_
            exact hr_sub _ rfl (J122 _ (by first | (rw [if_neg c124]; done) | (simp only [if_neg c124]; done) | rfl))
        clear h
        have h := e105
        refine hr_if_eq (x := _) hC 111 dX8_height_104 (by decide) (fun c103 => ?_) (fun c103 => ?_)
        · rw [if_pos c103] at h
          refine hr_iload hC dX8_height_111 rfl ?_
          refine hr_if_eq (x := _) hC 120 dX8_height_113 (by decide) (fun c109 => ?_) (fun c109 => ?_)
          · rw [if_pos c109] at h
            refine hr_aload_n hC dX8_height_120 rfl ?_
            refine hr_iload hC dX8_height_121 rfl ?_
            obtain ⟨r110, e111, h⟩ := hx_bind h
            refine hs_callV0 hC 8 [_] _ dX8_height_123 q1812 q1814 qs91 q322 q1815 np_X8 rfl OB_8 pd_X8_height (Nat.le_of_ble_eq_true rfl) hd1 (IH _ _ _ _ e111 am1) rfl ?_
            obtain rfl := Option.some.inj h
            exact hr_sub _ rfl (J106)
          · rw [if_neg c109] at h
            refine hr_iconst (v := 1) hC dX8_height_116 rfl ?_
            refine hr_goto hC 126 dX8_height_117 (by decide) ?_
            obtain rfl := Option.some.inj h
            exact hr_sub _ rfl (J106)
        · rw [if_neg c103] at h
          refine hr_iconst (v := 2) hC dX8_height_107 rfl ?_
          refine hr_goto hC 126 dX8_height_108 (by decide) ?_
          obtain rfl := Option.some.inj h
          exact hr_sub _ rfl (J106)
      clear h
      have h := e89
      refine hr_icmp_ne (x := _) hC 96 dX8_height_75 (by decide) (fun c87 => ?_) (fun c87 => ?_)
      · rw [if_neg c87] at h
        refine hr_iconst (v := 0) hC dX8_height_96 rfl ?_
        obtain rfl := Option.some.inj h
        exact hr_sub _ rfl (J90)
      · rw [if_pos c87] at h
        refine hr_aload_n hC dX8_height_78 rfl ?_
        refine hr_gO 6 hC F8_0 rfl dX8_height_79 q661 ?_
        refine hr_iload_n hC dX8_height_82 rfl ?_
        obtain ⟨r92, e93, h⟩ := hx_bind h
        refine hs_callV0 hC 6 [_] _ dX8_height_83 q1686 q1687 q1688 q320 q1689 np_X6 rfl OB_6 pd_X6_extra (Nat.le_of_ble_eq_true rfl) hd1 (okX6_extra l E A (d - 1)  (by omega)  e93 am1) rfl ?_
        obtain ⟨r96, e97, h⟩ := hx_bind h
        refine hs_callS0 hC [_] _ dX8_height_86 q1820 q1821 q316 q1822 np_X2 rfl pd_X2_isTold (Nat.le_of_ble_eq_true rfl) hd1 (okX2_isTold l E A (d - 1)  (by omega)  e97 am1) rfl ?_
        refine hr_if_eq (x := _) hC 96 dX8_height_89 (by decide) (fun c101 => ?_) (fun c101 => ?_)
        · rw [if_pos c101] at h
          refine hr_iconst (v := 0) hC dX8_height_96 rfl ?_
          obtain rfl := Option.some.inj h
          exact hr_sub _ rfl (J90)
        · rw [if_neg c101] at h
          refine hr_iconst (v := 1) hC dX8_height_92 rfl ?_
          refine hr_goto hC 97 dX8_height_93 (by decide) ?_
          obtain rfl := Option.some.inj h
          exact hr_sub _ rfl (J90)
set_option maxRecDepth 20000 in
set_option maxHeartbeats 4000000 in
theorem okbX8_height (l : Launch) (E : hc_E) (A : Nat → Prop) (d : Nat) {kk : Nat} (n : Nat) (k0 : Nat) (rec : Nat → List Int32 → hc_St → Option (Int32 × hc_St)) (hD : kk + 3 ≤ d) (IH : ∀ (w : Nat) (a : List Int32) (σ : hc_St) (r : (Int32 × hc_St)), rec w a σ = some r → ∀ am, okg_X8_height l E A (d - 1) am w a σ r) {x1 : Int32} {σ : hc_St} {r : (Int32 × hc_St)} (h : bd_X8_height n k0 rec x1 σ = some r) (am : Nat → Nat → Nat) : hc_M l hc_V0 yX8_height (ws_ yX8_height cX8_height 8 (some .int)) d E A [.ref (E.2.1 8), .int x1] am [] σ (.inl (some (.int r.1))) r.2 := by
  have hd1 : 1 ≤ d := by omega
  refine hc_enter2 (own := RX8) [(0, .ref (E.2.1 8)), (1, .int x1)] pl_X8 rfl hc_V0_st hc_G0_nd rfl (Nat.le_of_ble_eq_true rfl) (fun X hC hem => ?_)
  unfold bd_X8_height at h
  refine hr_aload_n hC dX8_height_0 rfl ?_
  refine hr_gO 6 hC F8_0 rfl dX8_height_1 q661 ?_
  refine hr_iload_n hC dX8_height_4 rfl ?_
  obtain ⟨r1, e2, h⟩ := hx_bind h
  refine hs_callV0 hC 6 [_] _ dX8_height_5 q1575 q1576 q1577 q320 q1578 np_X6 rfl OB_6 pd_X6_first (Nat.le_of_ble_eq_true rfl) hd1 (okX6_first l E A (d - 1)  (by omega)  e2 am) rfl ?_
  refine hr_istore_n hC dX8_height_8 (by decide) ?_
  refine hr_iconst (v := 1) hC dX8_height_9 rfl ?_
  refine hr_istore_n hC dX8_height_10 (by decide) ?_
  refine hr_aload_n hC dX8_height_11 rfl ?_
  refine hr_gO 6 hC F8_0 rfl dX8_height_12 q661 ?_
  refine hr_iload_n hC dX8_height_15 rfl ?_
  obtain ⟨r5, e6, h⟩ := hx_bind h
  refine hs_callV0 hC 6 [_] _ dX8_height_16 q1579 q1369 q1370 q320 q1371 np_X6 rfl OB_6 pd_X6_kind (Nat.le_of_ble_eq_true rfl) hd1 (okX6_kind l E A (d - 1)  (by omega)  e6 am) rfl ?_
  by_cases c130 : r5 = 30
  · rw [if_pos c130] at h
    refine hr_lookup hC 220 dX8_height_19 (by decide) (by rw [c130] <;> rfl) (by decide) ?_
    refine hr_aload_n hC dX8_height_220 rfl ?_
    refine hr_aload_n hC dX8_height_221 rfl ?_
    refine hr_gO 6 hC F8_0 rfl dX8_height_222 q661 ?_
    refine hr_iload_n hC dX8_height_225 rfl ?_
    obtain ⟨r25, e26, h⟩ := hx_bind h
    refine hs_callV0 hC 6 [_] _ dX8_height_226 q1602 q1603 q1604 q320 q1605 np_X6 rfl OB_6 pd_X6_next (Nat.le_of_ble_eq_true rfl) hd1 (okX6_next l E A (d - 1)  (by omega)  e26 am) rfl ?_
    obtain ⟨r29, e30, h⟩ := hx_bind h
    refine hs_callV0 hC 8 [_] _ dX8_height_229 q1812 q1814 qs91 q322 q1815 np_X8 rfl OB_8 pd_X8_height (Nat.le_of_ble_eq_true rfl) hd1 (IH _ _ _ _ e30 am) rfl ?_
    refine hr_istore_n hC dX8_height_232 (by decide) ?_
    refine hr_aload_n hC dX8_height_233 rfl ?_
    refine hr_gO 6 hC F8_0 rfl dX8_height_234 q661 ?_
    refine hr_iload_n hC dX8_height_237 rfl ?_
    obtain ⟨r33, e34, h⟩ := hx_bind h
    refine hs_callV0 hC 6 [_] _ dX8_height_238 q1579 q1369 q1370 q320 q1371 np_X6 rfl OB_6 pd_X6_kind (Nat.le_of_ble_eq_true rfl) hd1 (okX6_kind l E A (d - 1)  (by omega)  e34 am) rfl ?_
    refine hr_bipush (v := 40) hC dX8_height_241 rfl ?_
    obtain ⟨r39, e40, h⟩ := hx_bind h
    have J41 : hc_At hc_V0 E 8 X 268 [] [.int r39.2] r39.1 am [] := by
      obtain rfl := Option.some.inj h
      exact hr_iret hC dX8_height_268
    clear h
    have h := e40
    refine hr_icmp_ne (x := _) hC 267 dX8_height_243 (by decide) (fun c38 => ?_) (fun c38 => ?_)
    · rw [if_neg c38] at h
      refine hr_iload_n hC dX8_height_267 rfl ?_
      obtain rfl := Option.some.inj h
      exact hr_sub _ rfl (J41)
    · rw [if_pos c38] at h
      refine hr_aload_n hC dX8_height_246 rfl ?_
      refine hr_aload_n hC dX8_height_247 rfl ?_
      refine hr_gO 6 hC F8_0 rfl dX8_height_248 q661 ?_
      refine hr_iload_n hC dX8_height_251 rfl ?_
      obtain ⟨r43, e44, h⟩ := hx_bind h
      refine hs_callV0 hC 6 [_] _ dX8_height_252 q1575 q1576 q1577 q320 q1578 np_X6 rfl OB_6 pd_X6_first (Nat.le_of_ble_eq_true rfl) hd1 (okX6_first l E A (d - 1)  (by omega)  e44 am) rfl ?_
      obtain ⟨r47, e48, h⟩ := hx_bind h
      refine hs_callV0 hC 8 [_] _ dX8_height_255 q1812 q1814 qs91 q322 q1815 np_X8 rfl OB_8 pd_X8_height (Nat.le_of_ble_eq_true rfl) hd1 (IH _ _ _ _ e48 am) rfl ?_
      refine hr_iconst (v := 1) hC dX8_height_258 rfl ?_
      refine hr_iload_n hC dX8_height_259 rfl ?_
      refine hr_iadd hC dX8_height_260 ?_
      refine hr_max hC dX8_height_261 q1702 hd1 (Nat.le_of_ble_eq_true rfl) ?_
      refine hr_goto hC 268 dX8_height_264 (by decide) ?_
      obtain rfl := Option.some.inj h
      exact hr_sub _ rfl (J41)
  rw [if_neg c130] at h
  by_cases c131 : r5 = 32
  · rw [if_pos c131] at h
    refine hr_lookup hC 162 dX8_height_19 (by decide) (by rw [c131] <;> rfl) (by decide) ?_
    refine hr_aload_n hC dX8_height_162 rfl ?_
    refine hr_iload_n hC dX8_height_163 rfl ?_
    obtain ⟨r52, e53, h⟩ := hx_bind h
    refine hs_callV0 hC 8 [_] _ dX8_height_164 q1812 q1814 qs91 q322 q1815 np_X8 rfl OB_8 pd_X8_height (Nat.le_of_ble_eq_true rfl) hd1 (IH _ _ _ _ e53 am) rfl ?_
    refine hr_istore_n hC dX8_height_167 (by decide) ?_
    refine hr_aload_n hC dX8_height_168 rfl ?_
    refine hr_gO 6 hC F8_0 rfl dX8_height_169 q661 ?_
    refine hr_iload_n hC dX8_height_172 rfl ?_
    obtain ⟨r56, e57, h⟩ := hx_bind h
    refine hs_callV0 hC 6 [_] _ dX8_height_173 q1602 q1603 q1604 q320 q1605 np_X6 rfl OB_6 pd_X6_next (Nat.le_of_ble_eq_true rfl) hd1 (okX6_next l E A (d - 1)  (by omega)  e57 am) rfl ?_
    refine hr_istore hC dX8_height_176 (by decide) ?_
    obtain ⟨r75, e76, h⟩ := hx_bind h
    refine hr_sub _ rfl (ll_X8_height_178 n k0 rec hD hem IH hC n _ _ _ _ am e76 ?_)
    refine hr_iload_n hC dX8_height_218 rfl ?_
    obtain rfl := Option.some.inj h
    exact hr_iret hC dX8_height_219
  rw [if_neg c131] at h
  by_cases c132 : r5 = 39
  · rw [if_pos c132] at h
    refine hr_lookup hC 52 dX8_height_19 (by decide) (by rw [c132] <;> rfl) (by decide) ?_
    refine hr_iconst (v := 0) hC dX8_height_52 rfl ?_
    refine hr_istore hC dX8_height_53 (by decide) ?_
    refine hr_iload_n hC dX8_height_55 rfl ?_
    refine hr_istore hC dX8_height_56 (by decide) ?_
    obtain ⟨r125, e126, h⟩ := hx_bind h
    refine hr_sub _ rfl (ll_X8_height_58 n k0 rec hD hem IH hC n _ _ _ _ _ _ _ am e126 ?_)
    refine hr_iload_n hC dX8_height_160 rfl ?_
    obtain rfl := Option.some.inj h
    exact hr_iret hC dX8_height_161
  rw [if_neg c132] at h
  refine hr_lookup hC 269 dX8_height_19 (by decide) (hc_lkD (hc_l1 (hc_ne c130 rfl) (hc_l1 (hc_ne c131 rfl) (hc_l1 (hc_ne c132 rfl) hc_l0)))) (by decide) ?_
  refine hr_iload_n hC dX8_height_269 rfl ?_
  refine hr_istore hC dX8_height_270 (by decide) ?_
  obtain ⟨r20, e21, h⟩ := hx_bind h
  refine hr_sub _ rfl (ll_X8_height_272 n k0 rec hD hem IH hC n _ _ _ _ am e21 ?_)
  refine hr_iload_n hC dX8_height_303 rfl ?_
  obtain rfl := Option.some.inj h
  exact hr_iret hC dX8_height_304
def rc_X8_height (n : Nat) (k0 : Nat) : Nat → Nat → List Int32 → hc_St → Option (Int32 × hc_St)
  | 0, _, _, _ => none
  | k + 1, w, a, σ => match w with
    | 0 => bd_X8_height n k0 (rc_X8_height n k0 k) (a.getD 0 0) σ
    | _ => none
theorem okr_X8_height (l : Launch) (E : hc_E) (A : Nat → Prop) (n : Nat) (k0 : Nat) : ∀ (k d : Nat), k + 3 ≤ d → ∀ (w : Nat) (a : List Int32) (σ : hc_St) (r : (Int32 × hc_St)), rc_X8_height n k0 k w a σ = some r → ∀ am, okg_X8_height l E A d am w a σ r
  | 0, d, _, w, a, σ, r, h, am => by cases h
  | k + 1, d, hd, w, a, σ, r, h, am => by
    have IH := okr_X8_height l E A n k0 k (d - 1) (by omega)
    match w, h with
    | 0, h => exact okbX8_height l E A d (kk := k) n k0 (rc_X8_height n k0 k) (by omega) IH h am
    | w + 1, h => trivial
def fm_X8_height (n : Nat) (k0 : Nat) (x1 : Int32) (σ : hc_St) : Option (Int32 × hc_St) := rc_X8_height n k0 k0 0 [x1] σ
theorem okX8_height (l : Launch) (E : hc_E) (A : Nat → Prop) (d : Nat) (n : Nat) (k0 : Nat) (hD : k0 + 3 ≤ d)  {x1 : Int32} {σ : hc_St} {r : (Int32 × hc_St)} (h : fm_X8_height n k0 x1 σ = some r) (am : Nat → Nat → Nat) : hc_M l hc_V0 yX8_height (ws_ yX8_height cX8_height 8 (some .int)) d E A [.ref (E.2.1 8), .int x1] am [] σ (.inl (some (.int r.1))) r.2 := okr_X8_height l E A n k0 k0 d hD 0 _ _ _ h am
