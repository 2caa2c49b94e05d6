/-! HairRope.<init>, walked. Printed by wip/D-73134w/gen/ctors.py -/
set_option maxRecDepth 100000
theorem wp_X0_init : zs_mI yX0_init cX0_init 2 0 := ⟨q172, q134, q173, by decide, rfl, by decide +kernel⟩
def gq_X0_init_L253 (a0 : Nat) (w : Nat → Nat) : (Int32 × ps_S) → Option ((Int32 × ps_S) ⊕ (ps_S)) := fun t253 =>
if t253.1 < 40 then ((hp_gR t253.2 a0 0 27 9).bind fun y63 =>
(ps_nw t253.2 (5, 12, fun k => defaultValue (tyX5 k)) 12).bind fun z64 =>
(gq_X5_init w z64.2 z64.1).bind fun M65 =>
(hp_ck M65 z64.1 5).bind fun _ => (hp_pA M65 y63 7 t253.1 (.ref z64.1)).bind fun M66 =>
some (Sum.inl ((t253.1 + 1), M66)))
else (some (Sum.inr t253.2))
noncomputable def gq_X0_init (w : Nat → Nat) (M : ps_S) (a0 : Nat) : Option (ps_S) :=
(ps_nw M (1, 8, fun k => defaultValue (tyX1 k)) 8).bind fun z1 =>
(gq_X1_init w z1.2 z1.1).bind fun M2 =>
(hp_pV M2 a0 0 27 0 (.ref z1.1)).bind fun M3 =>
(ps_nw M3 (2, 8, fun k => defaultValue (tyX2 k)) 8).bind fun z4 =>
(gq_X2_init w z4.2 z4.1).bind fun M5 =>
(hp_pV M5 a0 0 27 1 (.ref z4.1)).bind fun M6 =>
(ps_nw M6 (3, 7, fun k => defaultValue (tyX3 k)) 7).bind fun z7 =>
(hp_gR z7.2 a0 0 27 1).bind fun y8 =>
(hp_gR z7.2 a0 0 27 0).bind fun y9 =>
(gq_X3_init w z7.2 z7.1 y8 y9).bind fun M10 =>
(hp_pV M10 a0 0 27 2 (.ref z7.1)).bind fun M11 =>
(ps_nw M11 (4, 8, fun k => defaultValue (tyX4 k)) 8).bind fun z12 =>
(gq_X4_init w z12.2 z12.1).bind fun M13 =>
(hp_pV M13 a0 0 27 3 (.ref z12.1)).bind fun M14 =>
(hp_pV M14 a0 0 27 4 (.int (-1))).bind fun M15 =>
(ps_nw M15 (5, 12, fun k => defaultValue (tyX5 k)) 12).bind fun z16 =>
(gq_X5_init w z16.2 z16.1).bind fun M17 =>
(hp_pV M17 a0 0 27 7 (.ref z16.1)).bind fun M18 =>
(ps_nw M18 (5, 12, fun k => defaultValue (tyX5 k)) 12).bind fun z19 =>
(gq_X5_init w z19.2 z19.1).bind fun M20 =>
(hp_pV M20 a0 0 27 8 (.ref z19.1)).bind fun M21 =>
(ps_na M21 7 .null 40).bind fun z22 =>
(hp_pV z22.2 a0 0 27 9 (.ref z22.1)).bind fun M23 =>
(ps_na M23 7 .null 3).bind fun z24 =>
(ps_nw z24.2 (5, 12, fun k => defaultValue (tyX5 k)) 12).bind fun z25 =>
(gq_X5_init w z25.2 z25.1).bind fun M26 =>
(hp_ck M26 z25.1 5).bind fun _ => (hp_pA M26 z24.1 7 0 (.ref z25.1)).bind fun M27 =>
(ps_nw M27 (5, 12, fun k => defaultValue (tyX5 k)) 12).bind fun z28 =>
(gq_X5_init w z28.2 z28.1).bind fun M29 =>
(hp_ck M29 z28.1 5).bind fun _ => (hp_pA M29 z24.1 7 1 (.ref z28.1)).bind fun M30 =>
(ps_nw M30 (5, 12, fun k => defaultValue (tyX5 k)) 12).bind fun z31 =>
(gq_X5_init w z31.2 z31.1).bind fun M32 =>
(hp_ck M32 z31.1 5).bind fun _ => (hp_pA M32 z24.1 7 2 (.ref z31.1)).bind fun M33 =>
(hp_pV M33 a0 0 27 10 (.ref z24.1)).bind fun M34 =>
(ps_nw M34 (8, 0, fun k => defaultValue (tyX6 k)) 0).bind fun z35 =>
(gq_X8_init w z35.2 z35.1).bind fun M36 =>
(hp_pV M36 a0 0 27 11 (.ref z35.1)).bind fun M37 =>
(ps_nw M37 (9, 0, fun k => defaultValue (tyX6 k)) 0).bind fun z38 =>
(gq_X9_init w z38.2 z38.1).bind fun M39 =>
(hp_pV M39 a0 0 27 12 (.ref z38.1)).bind fun M40 =>
(ps_na M40 3 (defaultValue .boolean) 3).bind fun z41 =>
(hp_pV z41.2 a0 0 27 13 (.ref z41.1)).bind fun M42 =>
(ps_mn M42 64 6).bind fun z43 =>
(hp_pV z43.2 a0 0 27 14 (.ref z43.1)).bind fun M44 =>
(ps_mn M44 6 6).bind fun z45 =>
(hp_pV z45.2 a0 0 27 15 (.ref z45.1)).bind fun M46 =>
(ps_na M46 0 (defaultValue .int) 64).bind fun z47 =>
(hp_pV z47.2 a0 0 27 16 (.ref z47.1)).bind fun M48 =>
(ps_na M48 0 (defaultValue .int) 6).bind fun z49 =>
(hp_pV z49.2 a0 0 27 17 (.ref z49.1)).bind fun M50 =>
(ps_na M50 0 (defaultValue .int) 6).bind fun z51 =>
(hp_pV z51.2 a0 0 27 18 (.ref z51.1)).bind fun M52 =>
(ps_na M52 0 (defaultValue .int) 20).bind fun z53 =>
(hp_pV z53.2 a0 0 27 22 (.ref z53.1)).bind fun M54 =>
(ps_na M54 0 (defaultValue .int) 20).bind fun z55 =>
(hp_pV z55.2 a0 0 27 23 (.ref z55.1)).bind fun M56 =>
(ps_na M56 3 (defaultValue .boolean) 20).bind fun z57 =>
(hp_pV z57.2 a0 0 27 24 (.ref z57.1)).bind fun M58 =>
(ps_na M58 0 (defaultValue .int) 6).bind fun z59 =>
(hp_pV z59.2 a0 0 27 25 (.ref z59.1)).bind fun M60 =>
(ps_mn M60 6 6).bind fun z61 =>
(hp_pV z61.2 a0 0 27 26 (.ref z61.1)).bind fun M62 =>
(zs_loop 5000 (gq_X0_init_L253 a0 w) (0, M62)).bind fun (r67 : ps_S) =>
(hp_end w r67 a0)
set_option maxHeartbeats 4000000 in
theorem kq_X0_init (D : zs_D) (w : Nat → Nat) (hE : D.2.2.2 1 = .ref (w 100)) (hF : D.2.2.2 4 = hp_v (w 101)) (hU : D.2.2.2 2 = hp_v (w 102)) (hV : D.2.2.2 3 = hp_v (w 103)) (hG : (∀ k, k < 22 → D.2.2.1 (11 + 2 * k) = w k) ∧ D.2.2.1 1 = w 22) (M : ps_S) (a0 : Nat) : zs_Con D hp_R ps_bd zs_eV yX0_init cX0_init 2 none 5 [.ref a0] M ((gq_X0_init w M a0).map fun x => ((), x)) := by
  unfold gq_X0_init
  refine zs_conV (own := RX0) (nm := "<init>") pl_X0 rfl rfl (Nat.le_of_ble_eq_true rfl) ?_
  refine zs_lv (lv' := [(0, .ref a0)]) rfl ?_
  refine zs_aload_n (pc := 0) 0 dX0_init_0 rfl rfl ?_
  refine zs_objI (pc := 1) (a := a0) q174 q175 q176 dX0_init_1 (Nat.le_of_ble_eq_true rfl) (Nat.le_of_ble_eq_true rfl) ?_
  refine zs_aload_n (pc := 4) 0 dX0_init_4 rfl rfl ?_
  refine hp_new (pc := 5) zc_X1 q177 q178 q138 dX0_init_5 (fun z1 => ?_)
  refine zs_dup (pc := 8) dX0_init_8 rfl ?_
  refine zs_callI0 (pc := 9) [] [.ref z1.1, .ref a0] (kq_X1_init D w hE hF hU hV hG z1.2 z1.1) wp_X1_init q216 dX0_init_9 rfl rfl (Nat.le_of_ble_eq_true rfl) (Nat.le_of_ble_eq_true rfl) (fun M2 _ => ?_)
  refine hp_putF (pc := 12) (ci := 0) (k := 0) zc_X0 (by decide) q529 rfl rfl rfl rfl rfl dX0_init_12 (fun M3 => ?_)
  refine zs_aload_n (pc := 15) 0 dX0_init_15 rfl rfl ?_
  refine hp_new (pc := 16) zc_X2 q251 q252 q139 dX0_init_16 (fun z4 => ?_)
  refine zs_dup (pc := 19) dX0_init_19 rfl ?_
  refine zs_callIN0 (pc := 20) [] [.ref z4.1, .ref a0] (kq_X2_init D w hE hF hU hV hG z4.2 z4.1) wp_X2_init q253 dX0_init_20 rfl rfl (Nat.le_of_ble_eq_true rfl) (Nat.le_of_ble_eq_true rfl) (fun M5 _ => ?_)
  refine hp_putF (pc := 23) (ci := 0) (k := 1) zc_X0 (by decide) q530 rfl rfl rfl rfl rfl dX0_init_23 (fun M6 => ?_)
  refine zs_aload_n (pc := 26) 0 dX0_init_26 rfl rfl ?_
  refine hp_new (pc := 27) zc_X3 q312 q313 q140 dX0_init_27 (fun z7 => ?_)
  refine zs_dup (pc := 30) dX0_init_30 rfl ?_
  refine zs_aload_n (pc := 31) 0 dX0_init_31 rfl rfl ?_
  refine hp_dR (pc := 32) (ci := 0) (k := 1) zc_X0 (by decide) q530 dX0_init_32 (fun y8 => ?_)
  refine zs_aload_n (pc := 35) 0 dX0_init_35 rfl rfl ?_
  refine hp_dR (pc := 36) (ci := 0) (k := 0) zc_X0 (by decide) q529 dX0_init_36 (fun y9 => ?_)
  refine zs_callI0 (pc := 39) [.ref y8, .ref y9] [.ref z7.1, .ref a0] (kq_X3_init D w hE hF hU hV hG z7.2 z7.1 y8 y9) wp_X3_init q314 dX0_init_39 rfl rfl (Nat.le_of_ble_eq_true rfl) (Nat.le_of_ble_eq_true rfl) (fun M10 _ => ?_)
  refine hp_putF (pc := 42) (ci := 0) (k := 2) zc_X0 (by decide) q531 rfl rfl rfl rfl rfl dX0_init_42 (fun M11 => ?_)
  refine zs_aload_n (pc := 45) 0 dX0_init_45 rfl rfl ?_
  refine hp_new (pc := 46) zc_X4 q340 q341 q141 dX0_init_46 (fun z12 => ?_)
  refine zs_dup (pc := 49) dX0_init_49 rfl ?_
  refine zs_callI0 (pc := 50) [] [.ref z12.1, .ref a0] (kq_X4_init D w hE hF hU hV hG z12.2 z12.1) wp_X4_init q342 dX0_init_50 rfl rfl (Nat.le_of_ble_eq_true rfl) (Nat.le_of_ble_eq_true rfl) (fun M13 _ => ?_)
  refine hp_put (pc := 53) (ci := 0) (k := 3) zc_X0 (by decide) q532 rfl rfl rfl dX0_init_53 (fun M14 => ?_)
  refine zs_aload_n (pc := 56) 0 dX0_init_56 rfl rfl ?_
  refine zs_iconst (pc := 57) (v := (-1)) dX0_init_57 rfl ?_
  refine hp_put (pc := 58) (ci := 0) (k := 4) zc_X0 (by decide) q533 rfl rfl rfl dX0_init_58 (fun M15 => ?_)
  refine zs_aload_n (pc := 61) 0 dX0_init_61 rfl rfl ?_
  refine hp_new (pc := 62) zc_X5 q417 q418 q145 dX0_init_62 (fun z16 => ?_)
  refine zs_dup (pc := 65) dX0_init_65 rfl ?_
  refine zs_callIN0 (pc := 66) [] [.ref z16.1, .ref a0] (kq_X5_init D w hE hF hU hV hG z16.2 z16.1) wp_X5_init q419 dX0_init_66 rfl rfl (Nat.le_of_ble_eq_true rfl) (Nat.le_of_ble_eq_true rfl) (fun M17 _ => ?_)
  refine hp_putF (pc := 69) (ci := 0) (k := 7) zc_X0 (by decide) q536 rfl rfl rfl rfl rfl dX0_init_69 (fun M18 => ?_)
  refine zs_aload_n (pc := 72) 0 dX0_init_72 rfl rfl ?_
  refine hp_new (pc := 73) zc_X5 q417 q418 q145 dX0_init_73 (fun z19 => ?_)
  refine zs_dup (pc := 76) dX0_init_76 rfl ?_
  refine zs_callIN0 (pc := 77) [] [.ref z19.1, .ref a0] (kq_X5_init D w hE hF hU hV hG z19.2 z19.1) wp_X5_init q419 dX0_init_77 rfl rfl (Nat.le_of_ble_eq_true rfl) (Nat.le_of_ble_eq_true rfl) (fun M20 _ => ?_)
  refine hp_putF (pc := 80) (ci := 0) (k := 8) zc_X0 (by decide) q537 rfl rfl rfl rfl rfl dX0_init_80 (fun M21 => ?_)
  refine zs_aload_n (pc := 83) 0 dX0_init_83 rfl rfl ?_
  refine zs_bipush (pc := 84) (v := 40) dX0_init_84 (by decide) ?_
  refine hp_newq (pc := 86) (t := 7) rfl q417 q487 dX0_init_86 (fun z22 => ?_)
  refine hp_putF (pc := 89) (ci := 0) (k := 9) zc_X0 (by decide) q538 rfl rfl rfl rfl rfl dX0_init_89 (fun M23 => ?_)
  refine zs_aload_n (pc := 92) 0 dX0_init_92 rfl rfl ?_
  refine zs_iconst (pc := 93) (v := 3) dX0_init_93 rfl ?_
  refine hp_newq (pc := 94) (t := 7) rfl q417 q487 dX0_init_94 (fun z24 => ?_)
  refine zs_dup (pc := 97) dX0_init_97 rfl ?_
  refine zs_iconst (pc := 98) (v := 0) dX0_init_98 rfl ?_
  refine hp_new (pc := 99) zc_X5 q417 q418 q145 dX0_init_99 (fun z25 => ?_)
  refine zs_dup (pc := 102) dX0_init_102 rfl ?_
  refine zs_callIN0 (pc := 103) [] [.ref z25.1, .int 0, .ref z24.1, .ref z24.1, .ref a0] (kq_X5_init D w hE hF hU hV hG z25.2 z25.1) wp_X5_init q419 dX0_init_103 rfl rfl (Nat.le_of_ble_eq_true rfl) (Nat.le_of_ble_eq_true rfl) (fun M26 _ => ?_)
  refine hp_ckr (pc := 106) (fun hc27 => ?_)
  refine hp_aast (pc := 106) (t := 7) (E := "HairRope$Village") rfl zc_X5 (Or.inl rfl) hc27 dX0_init_106 (fun M27 => ?_)
  refine zs_dup (pc := 107) dX0_init_107 rfl ?_
  refine zs_iconst (pc := 108) (v := 1) dX0_init_108 rfl ?_
  refine hp_new (pc := 109) zc_X5 q417 q418 q145 dX0_init_109 (fun z28 => ?_)
  refine zs_dup (pc := 112) dX0_init_112 rfl ?_
  refine zs_callIN0 (pc := 113) [] [.ref z28.1, .int 1, .ref z24.1, .ref z24.1, .ref a0] (kq_X5_init D w hE hF hU hV hG z28.2 z28.1) wp_X5_init q419 dX0_init_113 rfl rfl (Nat.le_of_ble_eq_true rfl) (Nat.le_of_ble_eq_true rfl) (fun M29 _ => ?_)
  refine hp_ckr (pc := 116) (fun hc30 => ?_)
  refine hp_aast (pc := 116) (t := 7) (E := "HairRope$Village") rfl zc_X5 (Or.inl rfl) hc30 dX0_init_116 (fun M30 => ?_)
  refine zs_dup (pc := 117) dX0_init_117 rfl ?_
  refine zs_iconst (pc := 118) (v := 2) dX0_init_118 rfl ?_
  refine hp_new (pc := 119) zc_X5 q417 q418 q145 dX0_init_119 (fun z31 => ?_)
  refine zs_dup (pc := 122) dX0_init_122 rfl ?_
  refine zs_callIN0 (pc := 123) [] [.ref z31.1, .int 2, .ref z24.1, .ref z24.1, .ref a0] (kq_X5_init D w hE hF hU hV hG z31.2 z31.1) wp_X5_init q419 dX0_init_123 rfl rfl (Nat.le_of_ble_eq_true rfl) (Nat.le_of_ble_eq_true rfl) (fun M32 _ => ?_)
  refine hp_ckr (pc := 126) (fun hc33 => ?_)
  refine hp_aast (pc := 126) (t := 7) (E := "HairRope$Village") rfl zc_X5 (Or.inl rfl) hc33 dX0_init_126 (fun M33 => ?_)
  refine hp_putF (pc := 127) (ci := 0) (k := 10) zc_X0 (by decide) q539 rfl rfl rfl rfl rfl dX0_init_127 (fun M34 => ?_)
  refine zs_aload_n (pc := 130) 0 dX0_init_130 rfl rfl ?_
  refine hp_new (pc := 131) zc_X8 q488 q489 q148 dX0_init_131 (fun z35 => ?_)
  refine zs_dup (pc := 134) dX0_init_134 rfl ?_
  refine zs_callIN0 (pc := 135) [] [.ref z35.1, .ref a0] (kq_X8_init D w hE hF hU hV hG z35.2 z35.1) wp_X8_init q490 dX0_init_135 rfl rfl (Nat.le_of_ble_eq_true rfl) (Nat.le_of_ble_eq_true rfl) (fun M36 _ => ?_)
  refine hp_putF (pc := 138) (ci := 0) (k := 11) zc_X0 (by decide) q540 rfl rfl rfl rfl rfl dX0_init_138 (fun M37 => ?_)
  refine zs_aload_n (pc := 141) 0 dX0_init_141 rfl rfl ?_
  refine hp_new (pc := 142) zc_X9 q498 q499 q149 dX0_init_142 (fun z38 => ?_)
  refine zs_dup (pc := 145) dX0_init_145 rfl ?_
  refine zs_callIN0 (pc := 146) [] [.ref z38.1, .ref a0] (kq_X9_init D w hE hF hU hV hG z38.2 z38.1) wp_X9_init q500 dX0_init_146 rfl rfl (Nat.le_of_ble_eq_true rfl) (Nat.le_of_ble_eq_true rfl) (fun M39 _ => ?_)
  refine hp_putF (pc := 149) (ci := 0) (k := 12) zc_X0 (by decide) q541 rfl rfl rfl rfl rfl dX0_init_149 (fun M40 => ?_)
  refine zs_aload_n (pc := 152) 0 dX0_init_152 rfl rfl ?_
  refine zs_iconst (pc := 153) (v := 3) dX0_init_153 rfl ?_
  refine hp_newa (pc := 154) (t := 3) rfl rfl (fun _ _ => Iff.rfl) q611 (by decide) dX0_init_154 (fun z41 => ?_)
  refine hp_putF (pc := 156) (ci := 0) (k := 13) zc_X0 (by decide) q542 rfl rfl rfl rfl rfl dX0_init_156 (fun M42 => ?_)
  refine zs_aload_n (pc := 159) 0 dX0_init_159 rfl rfl ?_
  refine zs_bipush (pc := 160) (v := 64) dX0_init_160 (by decide) ?_
  refine zs_bipush (pc := 162) (v := 6) dX0_init_162 (by decide) ?_
  refine hp_mna (pc := 164) (n := 64) (k := 6) q505 rfl rfl (by decide) (by decide) dX0_init_164 (fun z43 => ?_)
  refine hp_putF (pc := 168) (ci := 0) (k := 14) zc_X0 (by decide) q543 rfl rfl rfl rfl rfl dX0_init_168 (fun M44 => ?_)
  refine zs_aload_n (pc := 171) 0 dX0_init_171 rfl rfl ?_
  refine zs_bipush (pc := 172) (v := 6) dX0_init_172 (by decide) ?_
  refine zs_bipush (pc := 174) (v := 6) dX0_init_174 (by decide) ?_
  refine hp_mna (pc := 176) (n := 6) (k := 6) q505 rfl rfl (by decide) (by decide) dX0_init_176 (fun z45 => ?_)
  refine hp_putF (pc := 180) (ci := 0) (k := 15) zc_X0 (by decide) q544 rfl rfl rfl rfl rfl dX0_init_180 (fun M46 => ?_)
  refine zs_aload_n (pc := 183) 0 dX0_init_183 rfl rfl ?_
  refine zs_bipush (pc := 184) (v := 64) dX0_init_184 (by decide) ?_
  refine hp_newa (pc := 186) (t := 0) rfl rfl (fun _ _ => Iff.rfl) q416 (by decide) dX0_init_186 (fun z47 => ?_)
  refine hp_putF (pc := 188) (ci := 0) (k := 16) zc_X0 (by decide) q545 rfl rfl rfl rfl rfl dX0_init_188 (fun M48 => ?_)
  refine zs_aload_n (pc := 191) 0 dX0_init_191 rfl rfl ?_
  refine zs_bipush (pc := 192) (v := 6) dX0_init_192 (by decide) ?_
  refine hp_newa (pc := 194) (t := 0) rfl rfl (fun _ _ => Iff.rfl) q416 (by decide) dX0_init_194 (fun z49 => ?_)
  refine hp_putF (pc := 196) (ci := 0) (k := 17) zc_X0 (by decide) q546 rfl rfl rfl rfl rfl dX0_init_196 (fun M50 => ?_)
  refine zs_aload_n (pc := 199) 0 dX0_init_199 rfl rfl ?_
  refine zs_bipush (pc := 200) (v := 6) dX0_init_200 (by decide) ?_
  refine hp_newa (pc := 202) (t := 0) rfl rfl (fun _ _ => Iff.rfl) q416 (by decide) dX0_init_202 (fun z51 => ?_)
  refine hp_putF (pc := 204) (ci := 0) (k := 18) zc_X0 (by decide) q547 rfl rfl rfl rfl rfl dX0_init_204 (fun M52 => ?_)
  refine zs_aload_n (pc := 207) 0 dX0_init_207 rfl rfl ?_
  refine zs_bipush (pc := 208) (v := 20) dX0_init_208 (by decide) ?_
  refine hp_newa (pc := 210) (t := 0) rfl rfl (fun _ _ => Iff.rfl) q416 (by decide) dX0_init_210 (fun z53 => ?_)
  refine hp_putF (pc := 212) (ci := 0) (k := 22) zc_X0 (by decide) q551 rfl rfl rfl rfl rfl dX0_init_212 (fun M54 => ?_)
  refine zs_aload_n (pc := 215) 0 dX0_init_215 rfl rfl ?_
  refine zs_bipush (pc := 216) (v := 20) dX0_init_216 (by decide) ?_
  refine hp_newa (pc := 218) (t := 0) rfl rfl (fun _ _ => Iff.rfl) q416 (by decide) dX0_init_218 (fun z55 => ?_)
  refine hp_putF (pc := 220) (ci := 0) (k := 23) zc_X0 (by decide) q552 rfl rfl rfl rfl rfl dX0_init_220 (fun M56 => ?_)
  refine zs_aload_n (pc := 223) 0 dX0_init_223 rfl rfl ?_
  refine zs_bipush (pc := 224) (v := 20) dX0_init_224 (by decide) ?_
  refine hp_newa (pc := 226) (t := 3) rfl rfl (fun _ _ => Iff.rfl) q611 (by decide) dX0_init_226 (fun z57 => ?_)
  refine hp_putF (pc := 228) (ci := 0) (k := 24) zc_X0 (by decide) q553 rfl rfl rfl rfl rfl dX0_init_228 (fun M58 => ?_)
  refine zs_aload_n (pc := 231) 0 dX0_init_231 rfl rfl ?_
  refine zs_bipush (pc := 232) (v := 6) dX0_init_232 (by decide) ?_
  refine hp_newa (pc := 234) (t := 0) rfl rfl (fun _ _ => Iff.rfl) q416 (by decide) dX0_init_234 (fun z59 => ?_)
  refine hp_putF (pc := 236) (ci := 0) (k := 25) zc_X0 (by decide) q554 rfl rfl rfl rfl rfl dX0_init_236 (fun M60 => ?_)
  refine zs_aload_n (pc := 239) 0 dX0_init_239 rfl rfl ?_
  refine zs_bipush (pc := 240) (v := 6) dX0_init_240 (by decide) ?_
  refine zs_bipush (pc := 242) (v := 6) dX0_init_242 (by decide) ?_
  refine hp_mna (pc := 244) (n := 6) (k := 6) q505 rfl rfl (by decide) (by decide) dX0_init_244 (fun z61 => ?_)
  refine hp_putF (pc := 248) (ci := 0) (k := 26) zc_X0 (by decide) q555 rfl rfl rfl rfl rfl dX0_init_248 (fun M62 => ?_)
  refine zs_iconst (pc := 251) (v := 0) dX0_init_251 rfl ?_
  refine zs_istore_n (pc := 252) (lv' := [(0, .ref a0), (1, .int 0)]) [1, 0] dX0_init_252 rfl (by decide) rfl ?_
  refine zs_whileJ (pc := 253) (fun (t253 : Int32 × ps_S) => t253.2) (fun (t253 : Int32 × ps_S) => [(0, .ref a0), (1, .int t253.1)]) 5000 (0, M62) (fun (r67 : ps_S) => r67) 278 (fun (r67 : ps_S) => [(0, .ref a0)]) [] (fun r67 => ?_) (fun X253 hL253 hE253 t253 => ?_)
  · exact kq_end D w hE hF hU hV hG r67 a0 (by decide)
  · unfold gq_X0_init_L253
    refine zs_iload_n (pc := 253) 1 dX0_init_253 rfl rfl ?_
    refine zs_bipush (pc := 254) (v := 40) dX0_init_254 (by decide) ?_
    refine zs_icmp_ge (pc := 256) (tgt := 278) dX0_init_256 (by decide) ?_ ?_
    · refine zs_aload_n (pc := 259) 0 dX0_init_259 rfl rfl ?_
      refine hp_dR (pc := 260) (ci := 0) (k := 9) zc_X0 (by decide) q538 dX0_init_260 (fun y63 => ?_)
      refine zs_iload_n (pc := 263) 1 dX0_init_263 rfl rfl ?_
      refine hp_new (pc := 264) zc_X5 q417 q418 q145 dX0_init_264 (fun z64 => ?_)
      refine zs_dup (pc := 267) dX0_init_267 rfl ?_
      refine zs_callIN0 (pc := 268) [] [.ref z64.1, .int t253.1, .ref y63] (kq_X5_init D w hE hF hU hV hG z64.2 z64.1) wp_X5_init q419 dX0_init_268 rfl rfl (Nat.le_of_ble_eq_true rfl) (Nat.le_of_ble_eq_true rfl) (fun M65 _ => ?_)
      refine hp_ckr (pc := 271) (fun hc66 => ?_)
      refine hp_aast (pc := 271) (t := 7) (E := "HairRope$Village") rfl zc_X5 (Or.inl rfl) hc66 dX0_init_271 (fun M66 => ?_)
      refine zs_iinc (pc := 272) (lv' := [(0, .ref a0), (1, .int (t253.1 + 1))]) 1 [1, 0] dX0_init_272 rfl rfl (by decide) rfl ?_
      refine zs_goto (pc := 275) (tgt := 253) dX0_init_275 (by decide) ?_
      exact hL253 ((t253.1 + 1), M66)
    · refine zs_sub (lv' := [(0, .ref a0)]) [0] rfl ?_
      exact hE253 t253.2
