/-! HairRopeModel.<init>, walked. Printed by wip/D-73134w/gen/ctors.py -/
set_option maxRecDepth 100000
theorem wp_X10_init : zs_mI yX10_init cX10_init 1 0 := ⟨q1512, q152, q1513, by decide, rfl, by decide +kernel⟩
noncomputable def gq_X10_init (w : Nat → Nat) (M : ps_S) (a0 : Nat) : Option (ps_S) :=
(ps_na M 1 (defaultValue .byte) 2000).bind fun z1 =>
(hp_pV z1.2 a0 10 71 1 (.ref z1.1)).bind fun M2 =>
(ps_na M2 1 (defaultValue .byte) 2000).bind fun z3 =>
(hp_pV z3.2 a0 10 71 3 (.ref z3.1)).bind fun M4 =>
(ps_na M4 0 (defaultValue .int) 403).bind fun z5 =>
(hp_pV z5.2 a0 10 71 5 (.ref z5.1)).bind fun M6 =>
(ps_na M6 0 (defaultValue .int) 403).bind fun z7 =>
(hp_pV z7.2 a0 10 71 6 (.ref z7.1)).bind fun M8 =>
(ps_na M8 0 (defaultValue .int) 403).bind fun z9 =>
(hp_pV z9.2 a0 10 71 7 (.ref z9.1)).bind fun M10 =>
(ps_na M10 4 (defaultValue .long) 403).bind fun z11 =>
(hp_pV z11.2 a0 10 71 8 (.ref z11.1)).bind fun M12 =>
(ps_na M12 4 (defaultValue .long) 22).bind fun z13 =>
(hp_pV z13.2 a0 10 71 9 (.ref z13.1)).bind fun M14 =>
(hp_pV M14 a0 10 71 17 (.int (-1))).bind fun M15 =>
(ps_na M15 4 (defaultValue .long) 6).bind fun z16 =>
(hp_pV z16.2 a0 10 71 21 (.ref z16.1)).bind fun M17 =>
(ps_na M17 0 (defaultValue .int) 2).bind fun z18 =>
(hp_pV z18.2 a0 10 71 22 (.ref z18.1)).bind fun M19 =>
(ps_na M19 0 (defaultValue .int) 12).bind fun z20 =>
(hp_pV z20.2 a0 10 71 23 (.ref z20.1)).bind fun M21 =>
(ps_na M21 0 (defaultValue .int) 12).bind fun z22 =>
(hp_pV z22.2 a0 10 71 24 (.ref z22.1)).bind fun M23 =>
(ps_na M23 0 (defaultValue .int) 2).bind fun z24 =>
(hp_pV z24.2 a0 10 71 25 (.ref z24.1)).bind fun M25 =>
(ps_na M25 0 (defaultValue .int) 72).bind fun z26 =>
(hp_pV z26.2 a0 10 71 26 (.ref z26.1)).bind fun M27 =>
(ps_na M27 0 (defaultValue .int) 2).bind fun z28 =>
(hp_pV z28.2 a0 10 71 27 (.ref z28.1)).bind fun M29 =>
(ps_na M29 0 (defaultValue .int) 2).bind fun z30 =>
(hp_pV z30.2 a0 10 71 28 (.ref z30.1)).bind fun M31 =>
(ps_na M31 0 (defaultValue .int) 2).bind fun z32 =>
(hp_pV z32.2 a0 10 71 29 (.ref z32.1)).bind fun M33 =>
(ps_na M33 0 (defaultValue .int) 2).bind fun z34 =>
(hp_pV z34.2 a0 10 71 30 (.ref z34.1)).bind fun M35 =>
(ps_na M35 0 (defaultValue .int) 8).bind fun z36 =>
(hp_pV z36.2 a0 10 71 31 (.ref z36.1)).bind fun M37 =>
(ps_na M37 0 (defaultValue .int) 8).bind fun z38 =>
(hp_pV z38.2 a0 10 71 32 (.ref z38.1)).bind fun M39 =>
(ps_na M39 3 (defaultValue .boolean) 260).bind fun z40 =>
(hp_pV z40.2 a0 10 71 34 (.ref z40.1)).bind fun M41 =>
(ps_na M41 0 (defaultValue .int) 260).bind fun z42 =>
(hp_pV z42.2 a0 10 71 35 (.ref z42.1)).bind fun M43 =>
(ps_na M43 0 (defaultValue .int) 260).bind fun z44 =>
(hp_pV z44.2 a0 10 71 36 (.ref z44.1)).bind fun M45 =>
(ps_na M45 0 (defaultValue .int) 260).bind fun z46 =>
(hp_pV z46.2 a0 10 71 37 (.ref z46.1)).bind fun M47 =>
(ps_na M47 0 (defaultValue .int) 260).bind fun z48 =>
(hp_pV z48.2 a0 10 71 38 (.ref z48.1)).bind fun M49 =>
(ps_na M49 0 (defaultValue .int) 840).bind fun z50 =>
(hp_pV z50.2 a0 10 71 40 (.ref z50.1)).bind fun M51 =>
(ps_na M51 0 (defaultValue .int) 840).bind fun z52 =>
(hp_pV z52.2 a0 10 71 41 (.ref z52.1)).bind fun M53 =>
(ps_na M53 0 (defaultValue .int) 64).bind fun z54 =>
(hp_pV z54.2 a0 10 71 42 (.ref z54.1)).bind fun M55 =>
(ps_na M55 0 (defaultValue .int) 9).bind fun z56 =>
(hp_pV z56.2 a0 10 71 44 (.ref z56.1)).bind fun M57 =>
(ps_na M57 0 (defaultValue .int) 400).bind fun z58 =>
(hp_pV z58.2 a0 10 71 45 (.ref z58.1)).bind fun M59 =>
(ps_na M59 0 (defaultValue .int) 33).bind fun z60 =>
(hp_pV z60.2 a0 10 71 47 (.ref z60.1)).bind fun M61 =>
(ps_na M61 0 (defaultValue .int) 33).bind fun z62 =>
(hp_pV z62.2 a0 10 71 48 (.ref z62.1)).bind fun M63 =>
(ps_na M63 0 (defaultValue .int) 6).bind fun z64 =>
(hp_pV z64.2 a0 10 71 51 (.ref z64.1)).bind fun M65 =>
(ps_na M65 0 (defaultValue .int) 6).bind fun z66 =>
(hp_pV z66.2 a0 10 71 52 (.ref z66.1)).bind fun M67 =>
(ps_na M67 0 (defaultValue .int) 1320).bind fun z68 =>
(hp_pV z68.2 a0 10 71 54 (.ref z68.1)).bind fun M69 =>
(ps_na M69 0 (defaultValue .int) 6).bind fun z70 =>
(hp_pV z70.2 a0 10 71 55 (.ref z70.1)).bind fun M71 =>
(ps_na M71 0 (defaultValue .int) 6).bind fun z72 =>
(hp_pV z72.2 a0 10 71 56 (.ref z72.1)).bind fun M73 =>
(ps_na M73 0 (defaultValue .int) 36).bind fun z74 =>
(hp_pV z74.2 a0 10 71 57 (.ref z74.1)).bind fun M75 =>
(ps_na M75 0 (defaultValue .int) 36).bind fun z76 =>
(hp_pV z76.2 a0 10 71 58 (.ref z76.1)).bind fun M77 =>
(ps_na M77 0 (defaultValue .int) 36).bind fun z78 =>
(hp_pV z78.2 a0 10 71 59 (.ref z78.1)).bind fun M79 =>
(ps_na M79 0 (defaultValue .int) 6).bind fun z80 =>
(hp_pV z80.2 a0 10 71 60 (.ref z80.1)).bind fun M81 =>
(ps_na M81 0 (defaultValue .int) 6).bind fun z82 =>
(hp_pV z82.2 a0 10 71 62 (.ref z82.1)).bind fun M83 =>
(ps_na M83 0 (defaultValue .int) 20).bind fun z84 =>
(hp_pV z84.2 a0 10 71 64 (.ref z84.1)).bind fun M85 =>
(ps_na M85 0 (defaultValue .int) 20).bind fun z86 =>
(hp_pV z86.2 a0 10 71 65 (.ref z86.1)).bind fun M87 =>
(ps_na M87 3 (defaultValue .boolean) 20).bind fun z88 =>
(hp_pV z88.2 a0 10 71 66 (.ref z88.1)).bind fun M89 =>
(ps_na M89 0 (defaultValue .int) 6).bind fun z90 =>
(hp_pV z90.2 a0 10 71 67 (.ref z90.1)).bind fun M91 =>
(ps_na M91 0 (defaultValue .int) 6).bind fun z92 =>
(hp_pV z92.2 a0 10 71 68 (.ref z92.1)).bind fun M93 =>
(ps_na M93 3 (defaultValue .boolean) 3).bind fun z94 =>
(hp_pV z94.2 a0 10 71 69 (.ref z94.1)).bind fun M95 =>
(ps_na M95 0 (defaultValue .int) 99).bind fun z96 =>
(hp_pV z96.2 a0 10 71 70 (.ref z96.1)).bind fun M97 =>
(hm_end M97 a0)
set_option maxHeartbeats 4000000 in
theorem kq_X10_init (D : zs_D) (w : Nat → Nat) (hE : D.2.2.2 1 = .ref (w 100)) (hF : D.2.2.2 4 = hp_v (w 101)) (hU : D.2.2.2 2 = hp_v (w 102)) (hV : D.2.2.2 3 = hp_v (w 103)) (hG : (∀ k, k < 22 → D.2.2.1 (11 + 2 * k) = w k) ∧ D.2.2.1 1 = w 22) (M : ps_S) (a0 : Nat) : zs_Con D hp_R ps_bd zs_eV yX10_init cX10_init 1 none 2 [.ref a0] M ((gq_X10_init w M a0).map fun x => ((), x)) := by
  unfold gq_X10_init
  refine zs_conV (own := RX10) (nm := "<init>") pl_X10 rfl rfl (Nat.le_of_ble_eq_true rfl) ?_
  refine zs_lv (lv' := [(0, .ref a0)]) rfl ?_
  refine zs_aload_n (pc := 0) 0 dX10_init_0 rfl rfl ?_
  refine zs_objI (pc := 1) (a := a0) q1514 q175 q176 dX10_init_1 (Nat.le_of_ble_eq_true rfl) (Nat.le_of_ble_eq_true rfl) ?_
  refine zs_aload_n (pc := 4) 0 dX10_init_4 rfl rfl ?_
  refine zs_sipush (pc := 5) (v := 2000) dX10_init_5 (by decide) ?_
  refine hp_newa (pc := 8) (t := 1) rfl rfl (fun _ _ => Iff.rfl) q250 (by decide) dX10_init_8 (fun z1 => ?_)
  refine hp_putF (pc := 10) (ci := 10) (k := 1) zc_X10 (by decide) q1534 rfl rfl rfl rfl rfl dX10_init_10 (fun M2 => ?_)
  refine zs_aload_n (pc := 13) 0 dX10_init_13 rfl rfl ?_
  refine zs_sipush (pc := 14) (v := 2000) dX10_init_14 (by decide) ?_
  refine hp_newa (pc := 17) (t := 1) rfl rfl (fun _ _ => Iff.rfl) q250 (by decide) dX10_init_17 (fun z3 => ?_)
  refine hp_putF (pc := 19) (ci := 10) (k := 3) zc_X10 (by decide) q1536 rfl rfl rfl rfl rfl dX10_init_19 (fun M4 => ?_)
  refine zs_aload_n (pc := 22) 0 dX10_init_22 rfl rfl ?_
  refine zs_sipush (pc := 23) (v := 403) dX10_init_23 (by decide) ?_
  refine hp_newa (pc := 26) (t := 0) rfl rfl (fun _ _ => Iff.rfl) q416 (by decide) dX10_init_26 (fun z5 => ?_)
  refine hp_putF (pc := 28) (ci := 10) (k := 5) zc_X10 (by decide) q1538 rfl rfl rfl rfl rfl dX10_init_28 (fun M6 => ?_)
  refine zs_aload_n (pc := 31) 0 dX10_init_31 rfl rfl ?_
  refine zs_sipush (pc := 32) (v := 403) dX10_init_32 (by decide) ?_
  refine hp_newa (pc := 35) (t := 0) rfl rfl (fun _ _ => Iff.rfl) q416 (by decide) dX10_init_35 (fun z7 => ?_)
  refine hp_putF (pc := 37) (ci := 10) (k := 6) zc_X10 (by decide) q1539 rfl rfl rfl rfl rfl dX10_init_37 (fun M8 => ?_)
  refine zs_aload_n (pc := 40) 0 dX10_init_40 rfl rfl ?_
  refine zs_sipush (pc := 41) (v := 403) dX10_init_41 (by decide) ?_
  refine hp_newa (pc := 44) (t := 0) rfl rfl (fun _ _ => Iff.rfl) q416 (by decide) dX10_init_44 (fun z9 => ?_)
  refine hp_putF (pc := 46) (ci := 10) (k := 7) zc_X10 (by decide) q1540 rfl rfl rfl rfl rfl dX10_init_46 (fun M10 => ?_)
  refine zs_aload_n (pc := 49) 0 dX10_init_49 rfl rfl ?_
  refine zs_sipush (pc := 50) (v := 403) dX10_init_50 (by decide) ?_
  refine hp_newa (pc := 53) (t := 4) rfl rfl (fun _ _ => Iff.rfl) q1747 (by decide) dX10_init_53 (fun z11 => ?_)
  refine hp_putF (pc := 55) (ci := 10) (k := 8) zc_X10 (by decide) q1541 rfl rfl rfl rfl rfl dX10_init_55 (fun M12 => ?_)
  refine zs_aload_n (pc := 58) 0 dX10_init_58 rfl rfl ?_
  refine zs_bipush (pc := 59) (v := 22) dX10_init_59 (by decide) ?_
  refine hp_newa (pc := 61) (t := 4) rfl rfl (fun _ _ => Iff.rfl) q1747 (by decide) dX10_init_61 (fun z13 => ?_)
  refine hp_putF (pc := 63) (ci := 10) (k := 9) zc_X10 (by decide) q1542 rfl rfl rfl rfl rfl dX10_init_63 (fun M14 => ?_)
  refine zs_aload_n (pc := 66) 0 dX10_init_66 rfl rfl ?_
  refine zs_iconst (pc := 67) (v := (-1)) dX10_init_67 rfl ?_
  refine hp_put (pc := 68) (ci := 10) (k := 17) zc_X10 (by decide) q1550 rfl rfl rfl dX10_init_68 (fun M15 => ?_)
  refine zs_aload_n (pc := 71) 0 dX10_init_71 rfl rfl ?_
  refine zs_bipush (pc := 72) (v := 6) dX10_init_72 (by decide) ?_
  refine hp_newa (pc := 74) (t := 4) rfl rfl (fun _ _ => Iff.rfl) q1747 (by decide) dX10_init_74 (fun z16 => ?_)
  refine hp_putF (pc := 76) (ci := 10) (k := 21) zc_X10 (by decide) q1554 rfl rfl rfl rfl rfl dX10_init_76 (fun M17 => ?_)
  refine zs_aload_n (pc := 79) 0 dX10_init_79 rfl rfl ?_
  refine zs_iconst (pc := 80) (v := 2) dX10_init_80 rfl ?_
  refine hp_newa (pc := 81) (t := 0) rfl rfl (fun _ _ => Iff.rfl) q416 (by decide) dX10_init_81 (fun z18 => ?_)
  refine hp_putF (pc := 83) (ci := 10) (k := 22) zc_X10 (by decide) q1555 rfl rfl rfl rfl rfl dX10_init_83 (fun M19 => ?_)
  refine zs_aload_n (pc := 86) 0 dX10_init_86 rfl rfl ?_
  refine zs_bipush (pc := 87) (v := 12) dX10_init_87 (by decide) ?_
  refine hp_newa (pc := 89) (t := 0) rfl rfl (fun _ _ => Iff.rfl) q416 (by decide) dX10_init_89 (fun z20 => ?_)
  refine hp_putF (pc := 91) (ci := 10) (k := 23) zc_X10 (by decide) q1556 rfl rfl rfl rfl rfl dX10_init_91 (fun M21 => ?_)
  refine zs_aload_n (pc := 94) 0 dX10_init_94 rfl rfl ?_
  refine zs_bipush (pc := 95) (v := 12) dX10_init_95 (by decide) ?_
  refine hp_newa (pc := 97) (t := 0) rfl rfl (fun _ _ => Iff.rfl) q416 (by decide) dX10_init_97 (fun z22 => ?_)
  refine hp_putF (pc := 99) (ci := 10) (k := 24) zc_X10 (by decide) q1557 rfl rfl rfl rfl rfl dX10_init_99 (fun M23 => ?_)
  refine zs_aload_n (pc := 102) 0 dX10_init_102 rfl rfl ?_
  refine zs_iconst (pc := 103) (v := 2) dX10_init_103 rfl ?_
  refine hp_newa (pc := 104) (t := 0) rfl rfl (fun _ _ => Iff.rfl) q416 (by decide) dX10_init_104 (fun z24 => ?_)
  refine hp_putF (pc := 106) (ci := 10) (k := 25) zc_X10 (by decide) q1558 rfl rfl rfl rfl rfl dX10_init_106 (fun M25 => ?_)
  refine zs_aload_n (pc := 109) 0 dX10_init_109 rfl rfl ?_
  refine zs_bipush (pc := 110) (v := 72) dX10_init_110 (by decide) ?_
  refine hp_newa (pc := 112) (t := 0) rfl rfl (fun _ _ => Iff.rfl) q416 (by decide) dX10_init_112 (fun z26 => ?_)
  refine hp_putF (pc := 114) (ci := 10) (k := 26) zc_X10 (by decide) q1559 rfl rfl rfl rfl rfl dX10_init_114 (fun M27 => ?_)
  refine zs_aload_n (pc := 117) 0 dX10_init_117 rfl rfl ?_
  refine zs_iconst (pc := 118) (v := 2) dX10_init_118 rfl ?_
  refine hp_newa (pc := 119) (t := 0) rfl rfl (fun _ _ => Iff.rfl) q416 (by decide) dX10_init_119 (fun z28 => ?_)
  refine hp_putF (pc := 121) (ci := 10) (k := 27) zc_X10 (by decide) q1560 rfl rfl rfl rfl rfl dX10_init_121 (fun M29 => ?_)
  refine zs_aload_n (pc := 124) 0 dX10_init_124 rfl rfl ?_
  refine zs_iconst (pc := 125) (v := 2) dX10_init_125 rfl ?_
  refine hp_newa (pc := 126) (t := 0) rfl rfl (fun _ _ => Iff.rfl) q416 (by decide) dX10_init_126 (fun z30 => ?_)
  refine hp_putF (pc := 128) (ci := 10) (k := 28) zc_X10 (by decide) q1561 rfl rfl rfl rfl rfl dX10_init_128 (fun M31 => ?_)
  refine zs_aload_n (pc := 131) 0 dX10_init_131 rfl rfl ?_
  refine zs_iconst (pc := 132) (v := 2) dX10_init_132 rfl ?_
  refine hp_newa (pc := 133) (t := 0) rfl rfl (fun _ _ => Iff.rfl) q416 (by decide) dX10_init_133 (fun z32 => ?_)
  refine hp_putF (pc := 135) (ci := 10) (k := 29) zc_X10 (by decide) q1562 rfl rfl rfl rfl rfl dX10_init_135 (fun M33 => ?_)
  refine zs_aload_n (pc := 138) 0 dX10_init_138 rfl rfl ?_
  refine zs_iconst (pc := 139) (v := 2) dX10_init_139 rfl ?_
  refine hp_newa (pc := 140) (t := 0) rfl rfl (fun _ _ => Iff.rfl) q416 (by decide) dX10_init_140 (fun z34 => ?_)
  refine hp_putF (pc := 142) (ci := 10) (k := 30) zc_X10 (by decide) q1563 rfl rfl rfl rfl rfl dX10_init_142 (fun M35 => ?_)
  refine zs_aload_n (pc := 145) 0 dX10_init_145 rfl rfl ?_
  refine zs_bipush (pc := 146) (v := 8) dX10_init_146 (by decide) ?_
  refine hp_newa (pc := 148) (t := 0) rfl rfl (fun _ _ => Iff.rfl) q416 (by decide) dX10_init_148 (fun z36 => ?_)
  refine hp_putF (pc := 150) (ci := 10) (k := 31) zc_X10 (by decide) q1564 rfl rfl rfl rfl rfl dX10_init_150 (fun M37 => ?_)
  refine zs_aload_n (pc := 153) 0 dX10_init_153 rfl rfl ?_
  refine zs_bipush (pc := 154) (v := 8) dX10_init_154 (by decide) ?_
  refine hp_newa (pc := 156) (t := 0) rfl rfl (fun _ _ => Iff.rfl) q416 (by decide) dX10_init_156 (fun z38 => ?_)
  refine hp_putF (pc := 158) (ci := 10) (k := 32) zc_X10 (by decide) q1565 rfl rfl rfl rfl rfl dX10_init_158 (fun M39 => ?_)
  refine zs_aload_n (pc := 161) 0 dX10_init_161 rfl rfl ?_
  refine zs_sipush (pc := 162) (v := 260) dX10_init_162 (by decide) ?_
  refine hp_newa (pc := 165) (t := 3) rfl rfl (fun _ _ => Iff.rfl) q611 (by decide) dX10_init_165 (fun z40 => ?_)
  refine hp_putF (pc := 167) (ci := 10) (k := 34) zc_X10 (by decide) q1567 rfl rfl rfl rfl rfl dX10_init_167 (fun M41 => ?_)
  refine zs_aload_n (pc := 170) 0 dX10_init_170 rfl rfl ?_
  refine zs_sipush (pc := 171) (v := 260) dX10_init_171 (by decide) ?_
  refine hp_newa (pc := 174) (t := 0) rfl rfl (fun _ _ => Iff.rfl) q416 (by decide) dX10_init_174 (fun z42 => ?_)
  refine hp_putF (pc := 176) (ci := 10) (k := 35) zc_X10 (by decide) q1568 rfl rfl rfl rfl rfl dX10_init_176 (fun M43 => ?_)
  refine zs_aload_n (pc := 179) 0 dX10_init_179 rfl rfl ?_
  refine zs_sipush (pc := 180) (v := 260) dX10_init_180 (by decide) ?_
  refine hp_newa (pc := 183) (t := 0) rfl rfl (fun _ _ => Iff.rfl) q416 (by decide) dX10_init_183 (fun z44 => ?_)
  refine hp_putF (pc := 185) (ci := 10) (k := 36) zc_X10 (by decide) q1569 rfl rfl rfl rfl rfl dX10_init_185 (fun M45 => ?_)
  refine zs_aload_n (pc := 188) 0 dX10_init_188 rfl rfl ?_
  refine zs_sipush (pc := 189) (v := 260) dX10_init_189 (by decide) ?_
  refine hp_newa (pc := 192) (t := 0) rfl rfl (fun _ _ => Iff.rfl) q416 (by decide) dX10_init_192 (fun z46 => ?_)
  refine hp_putF (pc := 194) (ci := 10) (k := 37) zc_X10 (by decide) q1570 rfl rfl rfl rfl rfl dX10_init_194 (fun M47 => ?_)
  refine zs_aload_n (pc := 197) 0 dX10_init_197 rfl rfl ?_
  refine zs_sipush (pc := 198) (v := 260) dX10_init_198 (by decide) ?_
  refine hp_newa (pc := 201) (t := 0) rfl rfl (fun _ _ => Iff.rfl) q416 (by decide) dX10_init_201 (fun z48 => ?_)
  refine hp_putF (pc := 203) (ci := 10) (k := 38) zc_X10 (by decide) q1571 rfl rfl rfl rfl rfl dX10_init_203 (fun M49 => ?_)
  refine zs_aload_n (pc := 206) 0 dX10_init_206 rfl rfl ?_
  refine zs_sipush (pc := 207) (v := 840) dX10_init_207 (by decide) ?_
  refine hp_newa (pc := 210) (t := 0) rfl rfl (fun _ _ => Iff.rfl) q416 (by decide) dX10_init_210 (fun z50 => ?_)
  refine hp_putF (pc := 212) (ci := 10) (k := 40) zc_X10 (by decide) q1573 rfl rfl rfl rfl rfl dX10_init_212 (fun M51 => ?_)
  refine zs_aload_n (pc := 215) 0 dX10_init_215 rfl rfl ?_
  refine zs_sipush (pc := 216) (v := 840) dX10_init_216 (by decide) ?_
  refine hp_newa (pc := 219) (t := 0) rfl rfl (fun _ _ => Iff.rfl) q416 (by decide) dX10_init_219 (fun z52 => ?_)
  refine hp_putF (pc := 221) (ci := 10) (k := 41) zc_X10 (by decide) q1574 rfl rfl rfl rfl rfl dX10_init_221 (fun M53 => ?_)
  refine zs_aload_n (pc := 224) 0 dX10_init_224 rfl rfl ?_
  refine zs_bipush (pc := 225) (v := 64) dX10_init_225 (by decide) ?_
  refine hp_newa (pc := 227) (t := 0) rfl rfl (fun _ _ => Iff.rfl) q416 (by decide) dX10_init_227 (fun z54 => ?_)
  refine hp_putF (pc := 229) (ci := 10) (k := 42) zc_X10 (by decide) q1575 rfl rfl rfl rfl rfl dX10_init_229 (fun M55 => ?_)
  refine zs_aload_n (pc := 232) 0 dX10_init_232 rfl rfl ?_
  refine zs_bipush (pc := 233) (v := 9) dX10_init_233 (by decide) ?_
  refine hp_newa (pc := 235) (t := 0) rfl rfl (fun _ _ => Iff.rfl) q416 (by decide) dX10_init_235 (fun z56 => ?_)
  refine hp_putF (pc := 237) (ci := 10) (k := 44) zc_X10 (by decide) q1577 rfl rfl rfl rfl rfl dX10_init_237 (fun M57 => ?_)
  refine zs_aload_n (pc := 240) 0 dX10_init_240 rfl rfl ?_
  refine zs_sipush (pc := 241) (v := 400) dX10_init_241 (by decide) ?_
  refine hp_newa (pc := 244) (t := 0) rfl rfl (fun _ _ => Iff.rfl) q416 (by decide) dX10_init_244 (fun z58 => ?_)
  refine hp_putF (pc := 246) (ci := 10) (k := 45) zc_X10 (by decide) q1578 rfl rfl rfl rfl rfl dX10_init_246 (fun M59 => ?_)
  refine zs_aload_n (pc := 249) 0 dX10_init_249 rfl rfl ?_
  refine zs_bipush (pc := 250) (v := 33) dX10_init_250 (by decide) ?_
  refine hp_newa (pc := 252) (t := 0) rfl rfl (fun _ _ => Iff.rfl) q416 (by decide) dX10_init_252 (fun z60 => ?_)
  refine hp_putF (pc := 254) (ci := 10) (k := 47) zc_X10 (by decide) q1580 rfl rfl rfl rfl rfl dX10_init_254 (fun M61 => ?_)
  refine zs_aload_n (pc := 257) 0 dX10_init_257 rfl rfl ?_
  refine zs_bipush (pc := 258) (v := 33) dX10_init_258 (by decide) ?_
  refine hp_newa (pc := 260) (t := 0) rfl rfl (fun _ _ => Iff.rfl) q416 (by decide) dX10_init_260 (fun z62 => ?_)
  refine hp_putF (pc := 262) (ci := 10) (k := 48) zc_X10 (by decide) q1581 rfl rfl rfl rfl rfl dX10_init_262 (fun M63 => ?_)
  refine zs_aload_n (pc := 265) 0 dX10_init_265 rfl rfl ?_
  refine zs_bipush (pc := 266) (v := 6) dX10_init_266 (by decide) ?_
  refine hp_newa (pc := 268) (t := 0) rfl rfl (fun _ _ => Iff.rfl) q416 (by decide) dX10_init_268 (fun z64 => ?_)
  refine hp_putF (pc := 270) (ci := 10) (k := 51) zc_X10 (by decide) q1584 rfl rfl rfl rfl rfl dX10_init_270 (fun M65 => ?_)
  refine zs_aload_n (pc := 273) 0 dX10_init_273 rfl rfl ?_
  refine zs_bipush (pc := 274) (v := 6) dX10_init_274 (by decide) ?_
  refine hp_newa (pc := 276) (t := 0) rfl rfl (fun _ _ => Iff.rfl) q416 (by decide) dX10_init_276 (fun z66 => ?_)
  refine hp_putF (pc := 278) (ci := 10) (k := 52) zc_X10 (by decide) q1585 rfl rfl rfl rfl rfl dX10_init_278 (fun M67 => ?_)
  refine zs_aload_n (pc := 281) 0 dX10_init_281 rfl rfl ?_
  refine zs_sipush (pc := 282) (v := 1320) dX10_init_282 (by decide) ?_
  refine hp_newa (pc := 285) (t := 0) rfl rfl (fun _ _ => Iff.rfl) q416 (by decide) dX10_init_285 (fun z68 => ?_)
  refine hp_putF (pc := 287) (ci := 10) (k := 54) zc_X10 (by decide) q1587 rfl rfl rfl rfl rfl dX10_init_287 (fun M69 => ?_)
  refine zs_aload_n (pc := 290) 0 dX10_init_290 rfl rfl ?_
  refine zs_bipush (pc := 291) (v := 6) dX10_init_291 (by decide) ?_
  refine hp_newa (pc := 293) (t := 0) rfl rfl (fun _ _ => Iff.rfl) q416 (by decide) dX10_init_293 (fun z70 => ?_)
  refine hp_putF (pc := 295) (ci := 10) (k := 55) zc_X10 (by decide) q1588 rfl rfl rfl rfl rfl dX10_init_295 (fun M71 => ?_)
  refine zs_aload_n (pc := 298) 0 dX10_init_298 rfl rfl ?_
  refine zs_bipush (pc := 299) (v := 6) dX10_init_299 (by decide) ?_
  refine hp_newa (pc := 301) (t := 0) rfl rfl (fun _ _ => Iff.rfl) q416 (by decide) dX10_init_301 (fun z72 => ?_)
  refine hp_putF (pc := 303) (ci := 10) (k := 56) zc_X10 (by decide) q1589 rfl rfl rfl rfl rfl dX10_init_303 (fun M73 => ?_)
  refine zs_aload_n (pc := 306) 0 dX10_init_306 rfl rfl ?_
  refine zs_bipush (pc := 307) (v := 36) dX10_init_307 (by decide) ?_
  refine hp_newa (pc := 309) (t := 0) rfl rfl (fun _ _ => Iff.rfl) q416 (by decide) dX10_init_309 (fun z74 => ?_)
  refine hp_putF (pc := 311) (ci := 10) (k := 57) zc_X10 (by decide) q1590 rfl rfl rfl rfl rfl dX10_init_311 (fun M75 => ?_)
  refine zs_aload_n (pc := 314) 0 dX10_init_314 rfl rfl ?_
  refine zs_bipush (pc := 315) (v := 36) dX10_init_315 (by decide) ?_
  refine hp_newa (pc := 317) (t := 0) rfl rfl (fun _ _ => Iff.rfl) q416 (by decide) dX10_init_317 (fun z76 => ?_)
  refine hp_putF (pc := 319) (ci := 10) (k := 58) zc_X10 (by decide) q1591 rfl rfl rfl rfl rfl dX10_init_319 (fun M77 => ?_)
  refine zs_aload_n (pc := 322) 0 dX10_init_322 rfl rfl ?_
  refine zs_bipush (pc := 323) (v := 36) dX10_init_323 (by decide) ?_
  refine hp_newa (pc := 325) (t := 0) rfl rfl (fun _ _ => Iff.rfl) q416 (by decide) dX10_init_325 (fun z78 => ?_)
  refine hp_putF (pc := 327) (ci := 10) (k := 59) zc_X10 (by decide) q1592 rfl rfl rfl rfl rfl dX10_init_327 (fun M79 => ?_)
  refine zs_aload_n (pc := 330) 0 dX10_init_330 rfl rfl ?_
  refine zs_bipush (pc := 331) (v := 6) dX10_init_331 (by decide) ?_
  refine hp_newa (pc := 333) (t := 0) rfl rfl (fun _ _ => Iff.rfl) q416 (by decide) dX10_init_333 (fun z80 => ?_)
  refine hp_putF (pc := 335) (ci := 10) (k := 60) zc_X10 (by decide) q1593 rfl rfl rfl rfl rfl dX10_init_335 (fun M81 => ?_)
  refine zs_aload_n (pc := 338) 0 dX10_init_338 rfl rfl ?_
  refine zs_bipush (pc := 339) (v := 6) dX10_init_339 (by decide) ?_
  refine hp_newa (pc := 341) (t := 0) rfl rfl (fun _ _ => Iff.rfl) q416 (by decide) dX10_init_341 (fun z82 => ?_)
  refine hp_putF (pc := 343) (ci := 10) (k := 62) zc_X10 (by decide) q1595 rfl rfl rfl rfl rfl dX10_init_343 (fun M83 => ?_)
  refine zs_aload_n (pc := 346) 0 dX10_init_346 rfl rfl ?_
  refine zs_bipush (pc := 347) (v := 20) dX10_init_347 (by decide) ?_
  refine hp_newa (pc := 349) (t := 0) rfl rfl (fun _ _ => Iff.rfl) q416 (by decide) dX10_init_349 (fun z84 => ?_)
  refine hp_putF (pc := 351) (ci := 10) (k := 64) zc_X10 (by decide) q1597 rfl rfl rfl rfl rfl dX10_init_351 (fun M85 => ?_)
  refine zs_aload_n (pc := 354) 0 dX10_init_354 rfl rfl ?_
  refine zs_bipush (pc := 355) (v := 20) dX10_init_355 (by decide) ?_
  refine hp_newa (pc := 357) (t := 0) rfl rfl (fun _ _ => Iff.rfl) q416 (by decide) dX10_init_357 (fun z86 => ?_)
  refine hp_putF (pc := 359) (ci := 10) (k := 65) zc_X10 (by decide) q1598 rfl rfl rfl rfl rfl dX10_init_359 (fun M87 => ?_)
  refine zs_aload_n (pc := 362) 0 dX10_init_362 rfl rfl ?_
  refine zs_bipush (pc := 363) (v := 20) dX10_init_363 (by decide) ?_
  refine hp_newa (pc := 365) (t := 3) rfl rfl (fun _ _ => Iff.rfl) q611 (by decide) dX10_init_365 (fun z88 => ?_)
  refine hp_putF (pc := 367) (ci := 10) (k := 66) zc_X10 (by decide) q1599 rfl rfl rfl rfl rfl dX10_init_367 (fun M89 => ?_)
  refine zs_aload_n (pc := 370) 0 dX10_init_370 rfl rfl ?_
  refine zs_bipush (pc := 371) (v := 6) dX10_init_371 (by decide) ?_
  refine hp_newa (pc := 373) (t := 0) rfl rfl (fun _ _ => Iff.rfl) q416 (by decide) dX10_init_373 (fun z90 => ?_)
  refine hp_putF (pc := 375) (ci := 10) (k := 67) zc_X10 (by decide) q1600 rfl rfl rfl rfl rfl dX10_init_375 (fun M91 => ?_)
  refine zs_aload_n (pc := 378) 0 dX10_init_378 rfl rfl ?_
  refine zs_bipush (pc := 379) (v := 6) dX10_init_379 (by decide) ?_
  refine hp_newa (pc := 381) (t := 0) rfl rfl (fun _ _ => Iff.rfl) q416 (by decide) dX10_init_381 (fun z92 => ?_)
  refine hp_putF (pc := 383) (ci := 10) (k := 68) zc_X10 (by decide) q1601 rfl rfl rfl rfl rfl dX10_init_383 (fun M93 => ?_)
  refine zs_aload_n (pc := 386) 0 dX10_init_386 rfl rfl ?_
  refine zs_iconst (pc := 387) (v := 3) dX10_init_387 rfl ?_
  refine hp_newa (pc := 388) (t := 3) rfl rfl (fun _ _ => Iff.rfl) q611 (by decide) dX10_init_388 (fun z94 => ?_)
  refine hp_putF (pc := 390) (ci := 10) (k := 69) zc_X10 (by decide) q1602 rfl rfl rfl rfl rfl dX10_init_390 (fun M95 => ?_)
  refine zs_aload_n (pc := 393) 0 dX10_init_393 rfl rfl ?_
  refine zs_bipush (pc := 394) (v := 99) dX10_init_394 (by decide) ?_
  refine hp_newa (pc := 396) (t := 0) rfl rfl (fun _ _ => Iff.rfl) q416 (by decide) dX10_init_396 (fun z96 => ?_)
  refine hp_putF (pc := 398) (ci := 10) (k := 70) zc_X10 (by decide) q1603 rfl rfl rfl rfl rfl dX10_init_398 (fun M97 => ?_)
  exact kq_mend D M97 a0
