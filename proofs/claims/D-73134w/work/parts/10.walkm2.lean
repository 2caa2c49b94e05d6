/-! THE MODEL's methods, walked: what each computes (gm_), that its code computes it (km_). Printed by wip/D-73134w/gen/model.py -/
set_option maxRecDepth 100000
theorem kv_read : zs_mV RX10 yX10_read cX10_read 2 (some .int) 0 := ⟨q1761, q1762, q152, q1763, by decide, by decide +kernel⟩
def gm_read_L10 : (Int32 × zm_S) → Option ((Int32 × zm_S) ⊕ (zm_S)) := fun t10 =>
if t10.1 < (t10.2.1 4) then ((zs_ald 2000 (t10.2.2.1 1) t10.1).bind fun x2 =>
(zs_ast 2000 t10.1 (zm_sA t10.2 3 t10.1 (vp_nar .byte x2))).bind fun M3 =>
some (Sum.inl ((t10.1 + 1), M3)))
else (some (Sum.inr t10.2))
def gm_read_L112 : (zm_S) → Option ((zm_S) ⊕ (zm_S)) := fun t112 =>
if (t112.1 13) = 0 then ((gm_is t112 0).bind fun b16 =>
if b16 = true then (some (Sum.inr t112))
else ((gm_tellOne t112).bind fun M17 =>
some (Sum.inl M17)))
else (some (Sum.inr t112))
def gm_read_L219 : (Int32 × zm_S) → Option ((Int32 × zm_S) ⊕ (Int32 × zm_S)) := fun t219 =>
if t219.1 < 3 then ((zs_ast 3 t219.1 (zm_sA t219.2 69 t219.1 (vp_nar .boolean 0))).bind fun M26 =>
some (Sum.inl ((t219.1 + 1), M26)))
else (some (Sum.inr (0, t219.2)))
def gm_read (M : zm_S) : Option (Int32 × zm_S) :=
(some (zm_sF M 4 (M.1 2))).bind fun M1 =>
(zs_loop 5000 gm_read_L10 (0, M1)).bind fun (r4 : zm_S) =>
(some (zm_sF r4 2 0)).bind fun M5 =>
(gm_cut M5).bind fun M6 =>
(some (zm_sF M6 11 0)).bind fun M7 =>
(some (zm_sF M7 12 0)).bind fun M8 =>
(some (zm_sF M8 13 0)).bind fun M9 =>
(some (zm_sF M9 15 0)).bind fun M10 =>
(some (zm_sF M10 19 (1 - (M10.1 18)))).bind fun M11 =>
(some (zm_sF M11 20 0)).bind fun M12 =>
(gm_plain M12 (M12.1 19)).bind fun M13 =>
(some (zm_sF M13 33 (130 * (M13.1 19)))).bind fun M14 =>
(some (zm_sF M14 39 (420 * (M14.1 19)))).bind fun M15 =>
(zs_loop 5000 gm_read_L112 M15).bind fun (r18 : zm_S) =>
(if 0 < (r18.1 13) then (some (r18.1 14))
else (if 0 < (r18.1 15) then (some (r18.1 16))
else (some (-1)))).bind fun (p19 : Int32) =>
(some (zm_sF r18 17 p19)).bind fun M20 =>
if 0 < (M20.1 13) then (some ((M20.1 13), M20))
else (if 0 < (M20.1 15) then (some ((M20.1 15), M20))
else ((some (zm_sF M20 18 (M20.1 19))).bind fun M21 =>
(gm_begins M21).bind fun M22 =>
(gm_keepsRow M22).bind fun M23 =>
(some (zm_sF M23 53 0)).bind fun M24 =>
(some (zm_sF M24 63 0)).bind fun M25 =>
(zs_loop 5000 gm_read_L219 (0, M25)).bind fun z => some z))
set_option maxHeartbeats 4000000 in
theorem km_read (D : zs_D) (h0 : zs_AH) (m : Nat) (M : zm_S) : zs_Con D (zm_R h0 m) zm_bd zs_eI yX10_read cX10_read 2 (some .int) 7 [.ref m] M (gm_read M) := by
  unfold gm_read
  refine zs_con (own := RX10) (nm := "read") pl_X10 rfl rfl (Nat.le_of_ble_eq_true rfl) ?_
  refine zs_lv (lv' := [(0, .ref m)]) rfl ?_
  refine zs_aload_n (pc := 0) 0 dX10_read_0 rfl rfl ?_
  refine zs_aload_n (pc := 1) 0 dX10_read_1 rfl rfl ?_
  refine zm_geti (pc := 2) 2 (by decide) rfl q1535 dX10_read_2 ?_
  refine zm_puti (pc := 5) 4 (by decide) rfl q1537 rfl rfl rfl dX10_read_5 ?_
  refine zs_nmM (fun M1 => ?_)
  refine zs_iconst (pc := 8) (v := 0) dX10_read_8 rfl ?_
  refine zs_istore_n (pc := 9) (lv' := [(0, .ref m), (1, .int 0)]) [1, 0] dX10_read_9 rfl (by decide) rfl ?_
  refine zs_whileJ (pc := 10) (fun (t10 : Int32 × zm_S) => t10.2) (fun (t10 : Int32 × zm_S) => [(0, .ref m), (1, .int t10.1)]) 5000 (0, M1) (fun (r4 : zm_S) => r4) 36 (fun (r4 : zm_S) => [(0, .ref m)]) [] (fun r4 => ?_) (fun X10 hL10 hE10 t10 => ?_)
  · refine zs_aload_n (pc := 36) 0 dX10_read_36 rfl rfl ?_
    refine zs_iconst (pc := 37) (v := 0) dX10_read_37 rfl ?_
    refine zm_puti (pc := 38) 2 (by decide) rfl q1535 rfl rfl rfl dX10_read_38 ?_
    refine zs_nmM (fun M5 => ?_)
    refine zs_aload_n (pc := 41) 0 dX10_read_41 rfl rfl ?_
    refine zs_callVv (pc := 42) [] [] (km_cut D h0 m M5) kv_cut q1764 zc_X10 zm_recv dX10_read_42 rfl rfl (Nat.le_of_ble_eq_true rfl) (Nat.le_of_ble_eq_true rfl) (fun M6 => ?_)
    refine zs_aload_n (pc := 45) 0 dX10_read_45 rfl rfl ?_
    refine zs_iconst (pc := 46) (v := 0) dX10_read_46 rfl ?_
    refine zm_puti (pc := 47) 11 (by decide) rfl q1544 rfl rfl rfl dX10_read_47 ?_
    refine zs_nmM (fun M7 => ?_)
    refine zs_aload_n (pc := 50) 0 dX10_read_50 rfl rfl ?_
    refine zs_iconst (pc := 51) (v := 0) dX10_read_51 rfl ?_
    refine zm_puti (pc := 52) 12 (by decide) rfl q1545 rfl rfl rfl dX10_read_52 ?_
    refine zs_nmM (fun M8 => ?_)
    refine zs_aload_n (pc := 55) 0 dX10_read_55 rfl rfl ?_
    refine zs_iconst (pc := 56) (v := 0) dX10_read_56 rfl ?_
    refine zm_puti (pc := 57) 13 (by decide) rfl q1546 rfl rfl rfl dX10_read_57 ?_
    refine zs_nmM (fun M9 => ?_)
    refine zs_aload_n (pc := 60) 0 dX10_read_60 rfl rfl ?_
    refine zs_iconst (pc := 61) (v := 0) dX10_read_61 rfl ?_
    refine zm_puti (pc := 62) 15 (by decide) rfl q1548 rfl rfl rfl dX10_read_62 ?_
    refine zs_nmM (fun M10 => ?_)
    refine zs_aload_n (pc := 65) 0 dX10_read_65 rfl rfl ?_
    refine zs_iconst (pc := 66) (v := 1) dX10_read_66 rfl ?_
    refine zs_aload_n (pc := 67) 0 dX10_read_67 rfl rfl ?_
    refine zm_geti (pc := 68) 18 (by decide) rfl q1551 dX10_read_68 ?_
    refine zs_isub (pc := 71) dX10_read_71 ?_
    refine zm_puti (pc := 72) 19 (by decide) rfl q1552 rfl rfl rfl dX10_read_72 ?_
    refine zs_nmM (fun M11 => ?_)
    refine zs_aload_n (pc := 75) 0 dX10_read_75 rfl rfl ?_
    refine zs_iconst (pc := 76) (v := 0) dX10_read_76 rfl ?_
    refine zm_puti (pc := 77) 20 (by decide) rfl q1553 rfl rfl rfl dX10_read_77 ?_
    refine zs_nmM (fun M12 => ?_)
    refine zs_aload_n (pc := 80) 0 dX10_read_80 rfl rfl ?_
    refine zs_aload_n (pc := 81) 0 dX10_read_81 rfl rfl ?_
    refine zm_geti (pc := 82) 19 (by decide) rfl q1552 dX10_read_82 ?_
    refine zs_callVv (pc := 85) [.int (M12.1 19)] [] (km_plain D h0 m M12 (M12.1 19)) kv_plain q1515 zc_X10 zm_recv dX10_read_85 rfl rfl (Nat.le_of_ble_eq_true rfl) (Nat.le_of_ble_eq_true rfl) (fun M13 => ?_)
    refine zs_aload_n (pc := 88) 0 dX10_read_88 rfl rfl ?_
    refine zs_sipush (pc := 89) (v := 130) dX10_read_89 (by decide) ?_
    refine zs_aload_n (pc := 92) 0 dX10_read_92 rfl rfl ?_
    refine zm_geti (pc := 93) 19 (by decide) rfl q1552 dX10_read_93 ?_
    refine zs_imul (pc := 96) dX10_read_96 ?_
    refine zm_puti (pc := 97) 33 (by decide) rfl q1566 rfl rfl rfl dX10_read_97 ?_
    refine zs_nmM (fun M14 => ?_)
    refine zs_aload_n (pc := 100) 0 dX10_read_100 rfl rfl ?_
    refine zs_sipush (pc := 101) (v := 420) dX10_read_101 (by decide) ?_
    refine zs_aload_n (pc := 104) 0 dX10_read_104 rfl rfl ?_
    refine zm_geti (pc := 105) 19 (by decide) rfl q1552 dX10_read_105 ?_
    refine zs_imul (pc := 108) dX10_read_108 ?_
    refine zm_puti (pc := 109) 39 (by decide) rfl q1572 rfl rfl rfl dX10_read_109 ?_
    refine zs_nmM (fun M15 => ?_)
    refine zs_whileJ (pc := 112) (fun (t112 : zm_S) => t112) (fun (t112 : zm_S) => [(0, .ref m)]) 5000 M15 (fun (r18 : zm_S) => r18) 134 (fun (r18 : zm_S) => [(0, .ref m)]) [] (fun r18 => ?_) (fun X112 hL112 hE112 t112 => ?_)
    · refine zs_aload_n (pc := 134) 0 dX10_read_134 rfl rfl ?_
      refine zs_aload_n (pc := 135) 0 dX10_read_135 rfl rfl ?_
      refine zm_geti (pc := 136) 13 (by decide) rfl q1546 dX10_read_136 ?_
      refine zs_join (pc := 139) (fun (p19 : Int32) => r18) 164 (fun (p19 : Int32) => [(0, .ref m)]) (fun (p19 : Int32) => [.int p19, .ref m]) (fun p19 => ?_) (fun h164 => ?_)
      · refine zm_puti (pc := 164) 17 (by decide) rfl q1550 rfl rfl rfl dX10_read_164 ?_
        refine zs_nmM (fun M20 => ?_)
        refine zs_aload_n (pc := 167) 0 dX10_read_167 rfl rfl ?_
        refine zm_geti (pc := 168) 13 (by decide) rfl q1546 dX10_read_168 ?_
        refine zs_if_le (pc := 171) (tgt := 179) dX10_read_171 (by decide) ?_ ?_
        · refine zs_aload_n (pc := 174) 0 dX10_read_174 rfl rfl ?_
          refine zm_geti (pc := 175) 13 (by decide) rfl q1546 dX10_read_175 ?_
          exact zs_iret (pc := 178) dX10_read_178 rfl rfl rfl
        · refine zs_aload_n (pc := 179) 0 dX10_read_179 rfl rfl ?_
          refine zm_geti (pc := 180) 15 (by decide) rfl q1548 dX10_read_180 ?_
          refine zs_if_le (pc := 183) (tgt := 191) dX10_read_183 (by decide) ?_ ?_
          · refine zs_aload_n (pc := 186) 0 dX10_read_186 rfl rfl ?_
            refine zm_geti (pc := 187) 15 (by decide) rfl q1548 dX10_read_187 ?_
            exact zs_iret (pc := 190) dX10_read_190 rfl rfl rfl
          · refine zs_aload_n (pc := 191) 0 dX10_read_191 rfl rfl ?_
            refine zs_aload_n (pc := 192) 0 dX10_read_192 rfl rfl ?_
            refine zm_geti (pc := 193) 19 (by decide) rfl q1552 dX10_read_193 ?_
            refine zm_puti (pc := 196) 18 (by decide) rfl q1551 rfl rfl rfl dX10_read_196 ?_
            refine zs_nmM (fun M21 => ?_)
            refine zs_aload_n (pc := 199) 0 dX10_read_199 rfl rfl ?_
            refine zs_callVv (pc := 200) [] [] (km_begins D h0 m M21) kv_begins q1526 zc_X10 zm_recv dX10_read_200 rfl rfl (Nat.le_of_ble_eq_true rfl) (Nat.le_of_ble_eq_true rfl) (fun M22 => ?_)
            refine zs_aload_n (pc := 203) 0 dX10_read_203 rfl rfl ?_
            refine zs_callVv (pc := 204) [] [] (km_keepsRow D h0 m M22) kv_keepsRow q1530 zc_X10 zm_recv dX10_read_204 rfl rfl (Nat.le_of_ble_eq_true rfl) (Nat.le_of_ble_eq_true rfl) (fun M23 => ?_)
            refine zs_aload_n (pc := 207) 0 dX10_read_207 rfl rfl ?_
            refine zs_iconst (pc := 208) (v := 0) dX10_read_208 rfl ?_
            refine zm_puti (pc := 209) 53 (by decide) rfl q1586 rfl rfl rfl dX10_read_209 ?_
            refine zs_nmM (fun M24 => ?_)
            refine zs_aload_n (pc := 212) 0 dX10_read_212 rfl rfl ?_
            refine zs_iconst (pc := 213) (v := 0) dX10_read_213 rfl ?_
            refine zm_puti (pc := 214) 63 (by decide) rfl q1596 rfl rfl rfl dX10_read_214 ?_
            refine zs_nmM (fun M25 => ?_)
            refine zs_iconst (pc := 217) (v := 0) dX10_read_217 rfl ?_
            refine zs_istore_n (pc := 218) (lv' := [(0, .ref m), (1, .int 0)]) [1, 0] dX10_read_218 rfl (by decide) rfl ?_
            refine zs_whileX (pc := 219) (fun (t219 : Int32 × zm_S) => t219.2) (fun (t219 : Int32 × zm_S) => [(0, .ref m), (1, .int t219.1)]) 5000 (0, M25) (fun X219 hL219 hR219 t219 => ?_)
            unfold gm_read_L219
            refine zs_iload_n (pc := 219) 1 dX10_read_219 rfl rfl ?_
            refine zs_iconst (pc := 220) (v := 3) dX10_read_220 rfl ?_
            refine zs_icmp_ge (pc := 221) (tgt := 237) dX10_read_221 (by decide) ?_ ?_
            · refine zs_aload_n (pc := 224) 0 dX10_read_224 rfl rfl ?_
              refine zm_geta (pc := 225) 69 46 (by decide) rfl q1602 dX10_read_225 ?_
              refine zs_iload_n (pc := 228) 1 dX10_read_228 rfl rfl ?_
              refine zs_iconst (pc := 229) (v := 0) dX10_read_229 rfl ?_
              refine zm_zast (pc := 230) 69 46 zm_p69 dX10_read_230 (fun M26 => ?_)
              refine zs_iinc (pc := 231) (lv' := [(0, .ref m), (1, .int (t219.1 + 1))]) 1 [1, 0] dX10_read_231 rfl rfl (by decide) rfl ?_
              refine zs_goto (pc := 234) (tgt := 219) dX10_read_234 (by decide) ?_
              exact hL219 ((t219.1 + 1), M26)
            · refine zs_iconst (pc := 237) (v := 0) dX10_read_237 rfl ?_
              exact zs_iret (pc := 238) dX10_read_238 ((hR219 _).trans rfl) rfl rfl
      · refine zs_if_le (pc := 139) (tgt := 149) dX10_read_139 (by decide) ?_ ?_
        · refine zs_aload_n (pc := 142) 0 dX10_read_142 rfl rfl ?_
          refine zm_geti (pc := 143) 14 (by decide) rfl q1547 dX10_read_143 ?_
          refine zs_goto (pc := 146) (tgt := 164) dX10_read_146 (by decide) ?_
          exact h164 (r18.1 14)
        · refine zs_aload_n (pc := 149) 0 dX10_read_149 rfl rfl ?_
          refine zm_geti (pc := 150) 15 (by decide) rfl q1548 dX10_read_150 ?_
          refine zs_if_le (pc := 153) (tgt := 163) dX10_read_153 (by decide) ?_ ?_
          · refine zs_aload_n (pc := 156) 0 dX10_read_156 rfl rfl ?_
            refine zm_geti (pc := 157) 16 (by decide) rfl q1549 dX10_read_157 ?_
            refine zs_goto (pc := 160) (tgt := 164) dX10_read_160 (by decide) ?_
            exact h164 (r18.1 16)
          · refine zs_iconst (pc := 163) (v := (-1)) dX10_read_163 rfl ?_
            exact h164 (-1)
    · unfold gm_read_L112
      refine zs_aload_n (pc := 112) 0 dX10_read_112 rfl rfl ?_
      refine zm_geti (pc := 113) 13 (by decide) rfl q1546 dX10_read_113 ?_
      refine zs_if_ne (pc := 116) (tgt := 134) dX10_read_116 (by decide) ?_ ?_
      · refine zs_aload_n (pc := 119) 0 dX10_read_119 rfl rfl ?_
        refine zs_iconst (pc := 120) (v := 0) dX10_read_120 rfl ?_
        refine zs_callVrB (pc := 121) [.int 0] [] (km_is D h0 m t112 0) kv_is q1786 zc_X10 zm_recv dX10_read_121 rfl rfl (Nat.le_of_ble_eq_true rfl) (Nat.le_of_ble_eq_true rfl) (fun b16 => ?_)
        refine zs_if_t (pc := 124) (tgt := 134) dX10_read_124 (by decide) ?_ ?_
        · exact hE112 t112
        · refine zs_aload_n (pc := 127) 0 dX10_read_127 rfl rfl ?_
          refine zs_callVv (pc := 128) [] [] (km_tellOne D h0 m t112) kv_tellOne q1790 zc_X10 zm_recv dX10_read_128 rfl rfl (Nat.le_of_ble_eq_true rfl) (Nat.le_of_ble_eq_true rfl) (fun M17 => ?_)
          refine zs_goto (pc := 131) (tgt := 112) dX10_read_131 (by decide) ?_
          exact hL112 M17
      · exact hE112 t112
  · unfold gm_read_L10
    refine zs_iload_n (pc := 10) 1 dX10_read_10 rfl rfl ?_
    refine zs_aload_n (pc := 11) 0 dX10_read_11 rfl rfl ?_
    refine zm_geti (pc := 12) 4 (by decide) rfl q1537 dX10_read_12 ?_
    refine zs_icmp_ge (pc := 15) (tgt := 36) dX10_read_15 (by decide) ?_ ?_
    · refine zs_aload_n (pc := 18) 0 dX10_read_18 rfl rfl ?_
      refine zm_geta (pc := 19) 3 1 (by decide) rfl q1536 dX10_read_19 ?_
      refine zs_iload_n (pc := 22) 1 dX10_read_22 rfl rfl ?_
      refine zs_aload_n (pc := 23) 0 dX10_read_23 rfl rfl ?_
      refine zm_geta (pc := 24) 1 0 (by decide) rfl q1534 dX10_read_24 ?_
      refine zs_iload_n (pc := 27) 1 dX10_read_27 rfl rfl ?_
      refine zm_bald (pc := 28) 1 0 zm_p1 dX10_read_28 (fun x2 => ?_)
      refine zm_bast (pc := 29) 3 1 zm_p3 dX10_read_29 (fun M3 => ?_)
      refine zs_iinc (pc := 30) (lv' := [(0, .ref m), (1, .int (t10.1 + 1))]) 1 [1, 0] dX10_read_30 rfl rfl (by decide) rfl ?_
      refine zs_goto (pc := 33) (tgt := 10) dX10_read_33 (by decide) ?_
      exact hL10 ((t10.1 + 1), M3)
    · refine zs_sub (lv' := [(0, .ref m)]) [0] rfl ?_
      exact hE10 t10.2
theorem kv_place : zs_mV RX10 yX10_place cX10_place 1 (some .int) 0 := ⟨q1859, q1860, q152, q1861, by decide, by decide +kernel⟩
def gm_place (M : zm_S) : Option (Int32) :=
some (M.1 17)
set_option maxHeartbeats 4000000 in
theorem km_place (D : zs_D) (h0 : zs_AH) (m : Nat) (M : zm_S) : zs_Con D (zm_R h0 m) zm_bd zs_eI yX10_place cX10_place 1 (some .int) 0 [.ref m] M ((gm_place M).map fun x => (x, M)) := by
  unfold gm_place
  refine zs_conR (own := RX10) (nm := "place") pl_X10 rfl rfl (Nat.le_of_ble_eq_true rfl) ?_
  refine zs_lv (lv' := [(0, .ref m)]) rfl ?_
  refine zs_aload_n (pc := 0) 0 dX10_place_0 rfl rfl ?_
  refine zm_geti (pc := 1) 17 (by decide) rfl q1550 dX10_place_1 ?_
  exact zs_iret (pc := 4) dX10_place_4 rfl rfl rfl
theorem kv_in : zs_mS yX10_in cX10_in 3 (some .boolean) 3 := ⟨q1871, q152, q1872, by decide, by decide +kernel⟩
def gm_in (a0 : Int32) (a1 : Int32) (a2 : Int32) : Option (Bool) :=
zs_let (fun (p1 : Unit) => some false) fun J14 =>
if a0 < a1 then (J14 ())
else (if a2 < a0 then (J14 ())
else (some true))
set_option maxHeartbeats 4000000 in
theorem km_in {σ : Type} (D : zs_D) (Rl : σ → zs_AH → Prop) (bd : σ → Nat × Nat) (M : σ) (a0 : Int32) (a1 : Int32) (a2 : Int32) : zs_Con D Rl bd zs_eB yX10_in cX10_in 3 (some .boolean) 0 [.int a0, .int a1, .int a2] M ((gm_in a0 a1 a2).map fun x => (x, M)) := by
  unfold gm_in
  refine zs_conR (own := RX10) (nm := "in") pl_X10 rfl rfl (Nat.le_of_ble_eq_true rfl) ?_
  refine zs_lv (lv' := [(0, .int a0), (1, .int a1), (2, .int a2)]) rfl ?_
  refine zs_iload_n (pc := 0) 0 dX10_in_0 rfl rfl ?_
  refine zs_iload_n (pc := 1) 1 dX10_in_1 rfl rfl ?_
  refine zs_letJ (pc := 2) (fun (p1 : Unit) => M) 14 (fun (p1 : Unit) => []) (fun (p1 : Unit) => []) (fun p1 => ?_) (fun J14 h14 => ?_)
  · refine zs_iconst (pc := 14) (v := 0) dX10_in_14 rfl ?_
    exact zs_iret (pc := 15) dX10_in_15 rfl rfl rfl
  · refine zs_icmp_lt (pc := 2) (tgt := 14) dX10_in_2 (by decide) ?_ ?_
    · refine zs_sub (lv' := []) [] rfl ?_
      exact h14 ()
    · refine zs_iload_n (pc := 5) 0 dX10_in_5 rfl rfl ?_
      refine zs_iload_n (pc := 6) 2 dX10_in_6 rfl rfl ?_
      refine zs_icmp_gt (pc := 7) (tgt := 14) dX10_in_7 (by decide) ?_ ?_
      · refine zs_sub (lv' := []) [] rfl ?_
        exact h14 ()
      · refine zs_iconst (pc := 10) (v := 1) dX10_in_10 rfl ?_
        refine zs_goto (pc := 11) (tgt := 15) dX10_in_11 (by decide) ?_
        exact zs_iret (pc := 15) dX10_in_15 rfl rfl rfl
theorem kv_isHouse : zs_mV RX10 yX10_isHouse cX10_isHouse 2 (some .boolean) 1 := ⟨q1868, qs85, q152, q1869, by decide, by decide +kernel⟩
def gm_isHouse (M : zm_S) (a1 : Int32) : Option (Bool) :=
(zs_ald 2 (M.2.1 22) (M.1 18)).bind fun x1 =>
(gm_in a1 0 (x1 - 1)).bind fun b2 =>
some b2
set_option maxHeartbeats 4000000 in
theorem km_isHouse (D : zs_D) (h0 : zs_AH) (m : Nat) (M : zm_S) (a1 : Int32) : zs_Con D (zm_R h0 m) zm_bd zs_eB yX10_isHouse cX10_isHouse 2 (some .boolean) 1 [.ref m, .int a1] M ((gm_isHouse M a1).map fun x => (x, M)) := by
  unfold gm_isHouse
  refine zs_conR (own := RX10) (nm := "isHouse") pl_X10 rfl rfl (Nat.le_of_ble_eq_true rfl) ?_
  refine zs_lv (lv' := [(0, .ref m), (1, .int a1)]) rfl ?_
  refine zs_iload_n (pc := 0) 1 dX10_isHouse_0 rfl rfl ?_
  refine zs_iconst (pc := 1) (v := 0) dX10_isHouse_1 rfl ?_
  refine zs_aload_n (pc := 2) 0 dX10_isHouse_2 rfl rfl ?_
  refine zm_geta (pc := 3) 22 8 (by decide) rfl q1555 dX10_isHouse_3 ?_
  refine zs_aload_n (pc := 6) 0 dX10_isHouse_6 rfl rfl ?_
  refine zm_geti (pc := 7) 18 (by decide) rfl q1551 dX10_isHouse_7 ?_
  refine zm_iald (pc := 10) 22 8 zm_p22 dX10_isHouse_10 (fun x1 => ?_)
  refine zs_iconst (pc := 11) (v := 1) dX10_isHouse_11 rfl ?_
  refine zs_isub (pc := 12) dX10_isHouse_12 ?_
  refine zs_callSrB (pc := 13) [.int a1, .int 0, .int (x1 - 1)] [] (km_in D _ _ M a1 0 (x1 - 1)) kv_in q1870 dX10_isHouse_13 rfl rfl (Nat.le_of_ble_eq_true rfl) (Nat.le_of_ble_eq_true rfl) (fun b2 => ?_)
  exact zs_iret (pc := 16) dX10_isHouse_16 rfl rfl (zs_nb _)
theorem kv_copies : zs_mV RX10 yX10_copies cX10_copies 2 none 0 := ⟨q1875, qs86, q152, q1876, by decide, by decide +kernel⟩
def gm_copies_L2 : (Int32 × zm_S) → Option ((Int32 × zm_S) ⊕ (zm_S)) := fun t2 =>
if t2.1 < 33 then ((zs_ald 33 (t2.2.2.1 47) t2.1).bind fun x1 =>
(zs_ast 33 t2.1 (zm_sA t2.2 48 t2.1 x1)).bind fun M2 =>
some (Sum.inl ((t2.1 + 1), M2)))
else (some (Sum.inr t2.2))
def gm_copies (M : zm_S) : Option (zm_S) :=
(zs_loop 5000 gm_copies_L2 (0, M)).bind fun (r3 : zm_S) =>
(zs_ald 2 (r3.2.1 30) (r3.1 18)).bind fun x4 =>
(some (zm_sF r3 49 x4)).bind fun M5 =>
(some (zm_sF M5 50 0)).bind fun M6 =>
some M6
set_option maxHeartbeats 4000000 in
theorem km_copies (D : zs_D) (h0 : zs_AH) (m : Nat) (M : zm_S) : zs_Con D (zm_R h0 m) zm_bd zs_eV yX10_copies cX10_copies 2 none 0 [.ref m] M ((gm_copies M).map fun x => ((), x)) := by
  unfold gm_copies
  refine zs_conV (own := RX10) (nm := "copies") pl_X10 rfl rfl (Nat.le_of_ble_eq_true rfl) ?_
  refine zs_lv (lv' := [(0, .ref m)]) rfl ?_
  refine zs_iconst (pc := 0) (v := 0) dX10_copies_0 rfl ?_
  refine zs_istore_n (pc := 1) (lv' := [(0, .ref m), (1, .int 0)]) [1, 0] dX10_copies_1 rfl (by decide) rfl ?_
  refine zs_whileJ (pc := 2) (fun (t2 : Int32 × zm_S) => t2.2) (fun (t2 : Int32 × zm_S) => [(0, .ref m), (1, .int t2.1)]) 5000 (0, M) (fun (r3 : zm_S) => r3) 26 (fun (r3 : zm_S) => [(0, .ref m)]) [] (fun r3 => ?_) (fun X2 hL2 hE2 t2 => ?_)
  · refine zs_aload_n (pc := 26) 0 dX10_copies_26 rfl rfl ?_
    refine zs_aload_n (pc := 27) 0 dX10_copies_27 rfl rfl ?_
    refine zm_geta (pc := 28) 30 16 (by decide) rfl q1563 dX10_copies_28 ?_
    refine zs_aload_n (pc := 31) 0 dX10_copies_31 rfl rfl ?_
    refine zm_geti (pc := 32) 18 (by decide) rfl q1551 dX10_copies_32 ?_
    refine zm_iald (pc := 35) 30 16 zm_p30 dX10_copies_35 (fun x4 => ?_)
    refine zm_puti (pc := 36) 49 (by decide) rfl q1582 rfl rfl rfl dX10_copies_36 ?_
    refine zs_nmM (fun M5 => ?_)
    refine zs_aload_n (pc := 39) 0 dX10_copies_39 rfl rfl ?_
    refine zs_iconst (pc := 40) (v := 0) dX10_copies_40 rfl ?_
    refine zm_puti (pc := 41) 50 (by decide) rfl q1583 rfl rfl rfl dX10_copies_41 ?_
    refine zs_nmM (fun M6 => ?_)
    exact zs_vret (pc := 44) dX10_copies_44 rfl rfl
  · unfold gm_copies_L2
    refine zs_iload_n (pc := 2) 1 dX10_copies_2 rfl rfl ?_
    refine zs_bipush (pc := 3) (v := 33) dX10_copies_3 (by decide) ?_
    refine zs_icmp_ge (pc := 5) (tgt := 26) dX10_copies_5 (by decide) ?_ ?_
    · refine zs_aload_n (pc := 8) 0 dX10_copies_8 rfl rfl ?_
      refine zm_geta (pc := 9) 48 30 (by decide) rfl q1581 dX10_copies_9 ?_
      refine zs_iload_n (pc := 12) 1 dX10_copies_12 rfl rfl ?_
      refine zs_aload_n (pc := 13) 0 dX10_copies_13 rfl rfl ?_
      refine zm_geta (pc := 14) 47 29 (by decide) rfl q1580 dX10_copies_14 ?_
      refine zs_iload_n (pc := 17) 1 dX10_copies_17 rfl rfl ?_
      refine zm_iald (pc := 18) 47 29 zm_p47 dX10_copies_18 (fun x1 => ?_)
      refine zm_iast (pc := 19) 48 30 zm_p48 dX10_copies_19 (fun M2 => ?_)
      refine zs_iinc (pc := 20) (lv' := [(0, .ref m), (1, .int (t2.1 + 1))]) 1 [1, 0] dX10_copies_20 rfl rfl (by decide) rfl ?_
      refine zs_goto (pc := 23) (tgt := 2) dX10_copies_23 (by decide) ?_
      exact hL2 ((t2.1 + 1), M2)
    · refine zs_sub (lv' := [(0, .ref m)]) [0] rfl ?_
      exact hE2 t2.2
theorem kv_strongFirst : zs_mV RX10 yX10_strongFirst cX10_strongFirst 2 (some .int) 1 := ⟨q1879, qs87, q152, q1880, by decide, by decide +kernel⟩
def gm_strongFirst (M : zm_S) (a1 : Int32) : Option (Int32) :=
(zs_ald 12 (M.2.1 24) ((6 * (M.1 18)) + a1)).bind fun x1 =>
some x1
set_option maxHeartbeats 4000000 in
theorem km_strongFirst (D : zs_D) (h0 : zs_AH) (m : Nat) (M : zm_S) (a1 : Int32) : zs_Con D (zm_R h0 m) zm_bd zs_eI yX10_strongFirst cX10_strongFirst 2 (some .int) 0 [.ref m, .int a1] M ((gm_strongFirst M a1).map fun x => (x, M)) := by
  unfold gm_strongFirst
  refine zs_conR (own := RX10) (nm := "strongFirst") pl_X10 rfl rfl (Nat.le_of_ble_eq_true rfl) ?_
  refine zs_lv (lv' := [(0, .ref m), (1, .int a1)]) rfl ?_
  refine zs_aload_n (pc := 0) 0 dX10_strongFirst_0 rfl rfl ?_
  refine zm_geta (pc := 1) 24 10 (by decide) rfl q1557 dX10_strongFirst_1 ?_
  refine zs_bipush (pc := 4) (v := 6) dX10_strongFirst_4 (by decide) ?_
  refine zs_aload_n (pc := 6) 0 dX10_strongFirst_6 rfl rfl ?_
  refine zm_geti (pc := 7) 18 (by decide) rfl q1551 dX10_strongFirst_7 ?_
  refine zs_imul (pc := 10) dX10_strongFirst_10 ?_
  refine zs_iload_n (pc := 11) 1 dX10_strongFirst_11 rfl rfl ?_
  refine zs_iadd (pc := 12) dX10_strongFirst_12 ?_
  refine zm_iald (pc := 13) 24 10 zm_p24 dX10_strongFirst_13 (fun x1 => ?_)
  exact zs_iret (pc := 14) dX10_strongFirst_14 rfl rfl rfl
theorem kv_hasPlait : zs_mV RX10 yX10_hasPlait cX10_hasPlait 2 (some .boolean) 1 := ⟨q1883, qs88, q152, q1884, by decide, by decide +kernel⟩
def gm_hasPlait (M : zm_S) (a1 : Int32) : Option (Bool) :=
(zs_ald 33 (M.2.1 48) (6 + a1)).bind fun x1 =>
if 0 < x1 then (some true)
else (some false)
set_option maxHeartbeats 4000000 in
theorem km_hasPlait (D : zs_D) (h0 : zs_AH) (m : Nat) (M : zm_S) (a1 : Int32) : zs_Con D (zm_R h0 m) zm_bd zs_eB yX10_hasPlait cX10_hasPlait 2 (some .boolean) 0 [.ref m, .int a1] M ((gm_hasPlait M a1).map fun x => (x, M)) := by
  unfold gm_hasPlait
  refine zs_conR (own := RX10) (nm := "hasPlait") pl_X10 rfl rfl (Nat.le_of_ble_eq_true rfl) ?_
  refine zs_lv (lv' := [(0, .ref m), (1, .int a1)]) rfl ?_
  refine zs_aload_n (pc := 0) 0 dX10_hasPlait_0 rfl rfl ?_
  refine zm_geta (pc := 1) 48 30 (by decide) rfl q1581 dX10_hasPlait_1 ?_
  refine zs_bipush (pc := 4) (v := 6) dX10_hasPlait_4 (by decide) ?_
  refine zs_iload_n (pc := 6) 1 dX10_hasPlait_6 rfl rfl ?_
  refine zs_iadd (pc := 7) dX10_hasPlait_7 ?_
  refine zm_iald (pc := 8) 48 30 zm_p48 dX10_hasPlait_8 (fun x1 => ?_)
  refine zs_if_le (pc := 9) (tgt := 16) dX10_hasPlait_9 (by decide) ?_ ?_
  · refine zs_iconst (pc := 12) (v := 1) dX10_hasPlait_12 rfl ?_
    refine zs_goto (pc := 13) (tgt := 17) dX10_hasPlait_13 (by decide) ?_
    exact zs_iret (pc := 17) dX10_hasPlait_17 rfl rfl rfl
  · refine zs_iconst (pc := 16) (v := 0) dX10_hasPlait_16 rfl ?_
    exact zs_iret (pc := 17) dX10_hasPlait_17 rfl rfl rfl
theorem kv_placeOf : zs_mV RX10 yX10_placeOf cX10_placeOf 3 (some .int) 1 := ⟨q1887, qs89, q152, q1888, by decide, by decide +kernel⟩
def gm_placeOf_L2 (M : zm_S) (a1 : Int32) : (Int32) → Option ((Int32) ⊕ (Int32)) := fun t2 =>
(zs_ald 33 (M.2.1 48) 24).bind fun x1 =>
if t2 < x1 then ((zs_ald 33 (M.2.1 48) (25 + t2)).bind fun x2 =>
if x2 = a1 then (some (Sum.inr t2))
else (some (Sum.inl (t2 + 1))))
else (some (Sum.inr (-1)))
def gm_placeOf (M : zm_S) (a1 : Int32) : Option (Int32) :=
(zs_loop 5000 (gm_placeOf_L2 M a1) 0).bind fun z => some z
set_option maxHeartbeats 4000000 in
theorem km_placeOf (D : zs_D) (h0 : zs_AH) (m : Nat) (M : zm_S) (a1 : Int32) : zs_Con D (zm_R h0 m) zm_bd zs_eI yX10_placeOf cX10_placeOf 3 (some .int) 0 [.ref m, .int a1] M ((gm_placeOf M a1).map fun x => (x, M)) := by
  unfold gm_placeOf
  refine zs_conR (own := RX10) (nm := "placeOf") pl_X10 rfl rfl (Nat.le_of_ble_eq_true rfl) ?_
  refine zs_lv (lv' := [(0, .ref m), (1, .int a1)]) rfl ?_
  refine zs_iconst (pc := 0) (v := 0) dX10_placeOf_0 rfl ?_
  refine zs_istore_n (pc := 1) (lv' := [(0, .ref m), (1, .int a1), (2, .int 0)]) [1, 2, 0] dX10_placeOf_1 rfl (by decide) rfl ?_
  refine zs_whileX (pc := 2) (fun (t2 : Int32) => M) (fun (t2 : Int32) => [(0, .ref m), (1, .int a1), (2, .int t2)]) 5000 0 (fun X2 hL2 hR2 t2 => ?_)
  unfold gm_placeOf_L2
  refine zs_iload_n (pc := 2) 2 dX10_placeOf_2 rfl rfl ?_
  refine zs_aload_n (pc := 3) 0 dX10_placeOf_3 rfl rfl ?_
  refine zm_geta (pc := 4) 48 30 (by decide) rfl q1581 dX10_placeOf_4 ?_
  refine zs_bipush (pc := 7) (v := 24) dX10_placeOf_7 (by decide) ?_
  refine zm_iald (pc := 9) 48 30 zm_p48 dX10_placeOf_9 (fun x1 => ?_)
  refine zs_icmp_ge (pc := 10) (tgt := 34) dX10_placeOf_10 (by decide) ?_ ?_
  · refine zs_aload_n (pc := 13) 0 dX10_placeOf_13 rfl rfl ?_
    refine zm_geta (pc := 14) 48 30 (by decide) rfl q1581 dX10_placeOf_14 ?_
    refine zs_bipush (pc := 17) (v := 25) dX10_placeOf_17 (by decide) ?_
    refine zs_iload_n (pc := 19) 2 dX10_placeOf_19 rfl rfl ?_
    refine zs_iadd (pc := 20) dX10_placeOf_20 ?_
    refine zm_iald (pc := 21) 48 30 zm_p48 dX10_placeOf_21 (fun x2 => ?_)
    refine zs_iload_n (pc := 22) 1 dX10_placeOf_22 rfl rfl ?_
    refine zs_icmp_ne (pc := 23) (tgt := 28) dX10_placeOf_23 (by decide) ?_ ?_
    · refine zs_iload_n (pc := 26) 2 dX10_placeOf_26 rfl rfl ?_
      exact zs_iret (pc := 27) dX10_placeOf_27 ((hR2 _).trans rfl) rfl rfl
    · refine zs_iinc (pc := 28) (lv' := [(0, .ref m), (1, .int a1), (2, .int (t2 + 1))]) 2 [1, 2, 0] dX10_placeOf_28 rfl rfl (by decide) rfl ?_
      refine zs_goto (pc := 31) (tgt := 2) dX10_placeOf_31 (by decide) ?_
      exact hL2 (t2 + 1)
  · refine zs_iconst (pc := 34) (v := (-1)) dX10_placeOf_34 rfl ?_
    exact zs_iret (pc := 35) dX10_placeOf_35 ((hR2 _).trans rfl) rfl rfl
theorem kv_strongOf : zs_mV RX10 yX10_strongOf cX10_strongOf 2 (some .int) 1 := ⟨q1899, qs92, q152, q1900, by decide, by decide +kernel⟩
def gm_strongOf (M : zm_S) (a1 : Int32) : Option (Int32) :=
(gm_hasPlait M a1).bind fun b1 =>
if b1 = true then ((zs_ald 33 (M.2.1 48) (12 + a1)).bind fun x3 =>
some x3)
else ((gm_strongFirst M a1).bind fun x2 =>
some x2)
set_option maxHeartbeats 4000000 in
theorem km_strongOf (D : zs_D) (h0 : zs_AH) (m : Nat) (M : zm_S) (a1 : Int32) : zs_Con D (zm_R h0 m) zm_bd zs_eI yX10_strongOf cX10_strongOf 2 (some .int) 1 [.ref m, .int a1] M ((gm_strongOf M a1).map fun x => (x, M)) := by
  unfold gm_strongOf
  refine zs_conR (own := RX10) (nm := "strongOf") pl_X10 rfl rfl (Nat.le_of_ble_eq_true rfl) ?_
  refine zs_lv (lv' := [(0, .ref m), (1, .int a1)]) rfl ?_
  refine zs_aload_n (pc := 0) 0 dX10_strongOf_0 rfl rfl ?_
  refine zs_iload_n (pc := 1) 1 dX10_strongOf_1 rfl rfl ?_
  refine zs_callVrB (pc := 2) [.int a1] [] (km_hasPlait D h0 m M a1) kv_hasPlait q1881 zc_X10 zm_recv dX10_strongOf_2 rfl rfl (Nat.le_of_ble_eq_true rfl) (Nat.le_of_ble_eq_true rfl) (fun b1 => ?_)
  refine zs_if_f (pc := 5) (tgt := 20) dX10_strongOf_5 (by decide) ?_ ?_
  · refine zs_aload_n (pc := 8) 0 dX10_strongOf_8 rfl rfl ?_
    refine zm_geta (pc := 9) 48 30 (by decide) rfl q1581 dX10_strongOf_9 ?_
    refine zs_bipush (pc := 12) (v := 12) dX10_strongOf_12 (by decide) ?_
    refine zs_iload_n (pc := 14) 1 dX10_strongOf_14 rfl rfl ?_
    refine zs_iadd (pc := 15) dX10_strongOf_15 ?_
    refine zm_iald (pc := 16) 48 30 zm_p48 dX10_strongOf_16 (fun x3 => ?_)
    refine zs_goto (pc := 17) (tgt := 25) dX10_strongOf_17 (by decide) ?_
    exact zs_iret (pc := 25) dX10_strongOf_25 rfl rfl rfl
  · refine zs_aload_n (pc := 20) 0 dX10_strongOf_20 rfl rfl ?_
    refine zs_iload_n (pc := 21) 1 dX10_strongOf_21 rfl rfl ?_
    refine zs_callVrI (pc := 22) [.int a1] [] (km_strongFirst D h0 m M a1) kv_strongFirst q1877 zc_X10 zm_recv dX10_strongOf_22 rfl rfl (Nat.le_of_ble_eq_true rfl) (Nat.le_of_ble_eq_true rfl) (fun x2 => ?_)
    exact zs_iret (pc := 25) dX10_strongOf_25 rfl rfl rfl
theorem kv_views : zs_mV RX10 yX10_views cX10_views 2 none 1 := ⟨q1895, qs91, q152, q1896, by decide, by decide +kernel⟩
def gm_views (M : zm_S) (a1 : Int32) : Option (zm_S) :=
(zs_ald 33 (M.2.1 48) a1).bind fun x1 =>
(zs_ast 9 0 (zm_sA M 44 0 x1)).bind fun M2 =>
(gm_strongOf M2 a1).bind fun x3 =>
(zs_ast 9 1 (zm_sA M2 44 1 x3)).bind fun M4 =>
(zs_ast 9 2 (zm_sA M4 44 2 0)).bind fun M5 =>
(zs_ald 33 (M5.2.1 48) 31).bind fun x6 =>
(zs_ast 9 3 (zm_sA M5 44 3 x6)).bind fun M7 =>
(gm_hasPlait M7 a1).bind fun b8 =>
(if b8 = true then ((gm_placeOf M7 a1).bind fun x17 =>
some x17)
else (some 0)).bind fun (p9 : Int32) =>
(zs_ast 9 4 (zm_sA M7 44 4 p9)).bind fun M10 =>
(zs_ast 9 5 (zm_sA M10 44 5 a1)).bind fun M11 =>
(zs_ald 33 (M11.2.1 48) 24).bind fun x12 =>
(zs_ast 9 6 (zm_sA M11 44 6 x12)).bind fun M13 =>
(zs_ald 33 (M13.2.1 48) (18 + a1)).bind fun x14 =>
(zs_ast 9 7 (zm_sA M13 44 7 x14)).bind fun M15 =>
(zs_ast 9 8 (zm_sA M15 44 8 0)).bind fun M16 =>
some M16
set_option maxHeartbeats 4000000 in
theorem km_views (D : zs_D) (h0 : zs_AH) (m : Nat) (M : zm_S) (a1 : Int32) : zs_Con D (zm_R h0 m) zm_bd zs_eV yX10_views cX10_views 2 none 2 [.ref m, .int a1] M ((gm_views M a1).map fun x => ((), x)) := by
  unfold gm_views
  refine zs_conV (own := RX10) (nm := "views") pl_X10 rfl rfl (Nat.le_of_ble_eq_true rfl) ?_
  refine zs_lv (lv' := [(0, .ref m), (1, .int a1)]) rfl ?_
  refine zs_aload_n (pc := 0) 0 dX10_views_0 rfl rfl ?_
  refine zm_geta (pc := 1) 44 27 (by decide) rfl q1577 dX10_views_1 ?_
  refine zs_iconst (pc := 4) (v := 0) dX10_views_4 rfl ?_
  refine zs_aload_n (pc := 5) 0 dX10_views_5 rfl rfl ?_
  refine zm_geta (pc := 6) 48 30 (by decide) rfl q1581 dX10_views_6 ?_
  refine zs_iload_n (pc := 9) 1 dX10_views_9 rfl rfl ?_
  refine zm_iald (pc := 10) 48 30 zm_p48 dX10_views_10 (fun x1 => ?_)
  refine zm_iast (pc := 11) 44 27 zm_p44 dX10_views_11 (fun M2 => ?_)
  refine zs_aload_n (pc := 12) 0 dX10_views_12 rfl rfl ?_
  refine zm_geta (pc := 13) 44 27 (by decide) rfl q1577 dX10_views_13 ?_
  refine zs_iconst (pc := 16) (v := 1) dX10_views_16 rfl ?_
  refine zs_aload_n (pc := 17) 0 dX10_views_17 rfl rfl ?_
  refine zs_iload_n (pc := 18) 1 dX10_views_18 rfl rfl ?_
  refine zs_callVrI (pc := 19) [.int a1] [.int 1, .ref (m + (27 + 1))] (km_strongOf D h0 m M2 a1) kv_strongOf q1897 zc_X10 zm_recv dX10_views_19 rfl rfl (Nat.le_of_ble_eq_true rfl) (Nat.le_of_ble_eq_true rfl) (fun x3 => ?_)
  refine zm_iast (pc := 22) 44 27 zm_p44 dX10_views_22 (fun M4 => ?_)
  refine zs_aload_n (pc := 23) 0 dX10_views_23 rfl rfl ?_
  refine zm_geta (pc := 24) 44 27 (by decide) rfl q1577 dX10_views_24 ?_
  refine zs_iconst (pc := 27) (v := 2) dX10_views_27 rfl ?_
  refine zs_iconst (pc := 28) (v := 0) dX10_views_28 rfl ?_
  refine zm_iast (pc := 29) 44 27 zm_p44 dX10_views_29 (fun M5 => ?_)
  refine zs_aload_n (pc := 30) 0 dX10_views_30 rfl rfl ?_
  refine zm_geta (pc := 31) 44 27 (by decide) rfl q1577 dX10_views_31 ?_
  refine zs_iconst (pc := 34) (v := 3) dX10_views_34 rfl ?_
  refine zs_aload_n (pc := 35) 0 dX10_views_35 rfl rfl ?_
  refine zm_geta (pc := 36) 48 30 (by decide) rfl q1581 dX10_views_36 ?_
  refine zs_bipush (pc := 39) (v := 31) dX10_views_39 (by decide) ?_
  refine zm_iald (pc := 41) 48 30 zm_p48 dX10_views_41 (fun x6 => ?_)
  refine zm_iast (pc := 42) 44 27 zm_p44 dX10_views_42 (fun M7 => ?_)
  refine zs_aload_n (pc := 43) 0 dX10_views_43 rfl rfl ?_
  refine zm_geta (pc := 44) 44 27 (by decide) rfl q1577 dX10_views_44 ?_
  refine zs_iconst (pc := 47) (v := 4) dX10_views_47 rfl ?_
  refine zs_aload_n (pc := 48) 0 dX10_views_48 rfl rfl ?_
  refine zs_iload_n (pc := 49) 1 dX10_views_49 rfl rfl ?_
  refine zs_callVrB (pc := 50) [.int a1] [.int 4, .ref (m + (27 + 1))] (km_hasPlait D h0 m M7 a1) kv_hasPlait q1881 zc_X10 zm_recv dX10_views_50 rfl rfl (Nat.le_of_ble_eq_true rfl) (Nat.le_of_ble_eq_true rfl) (fun b8 => ?_)
  refine zs_join (pc := 53) (fun (p9 : Int32) => M7) 65 (fun (p9 : Int32) => [(0, .ref m), (1, .int a1)]) (fun (p9 : Int32) => [.int p9, .int 4, .ref (m + (27 + 1))]) (fun p9 => ?_) (fun h65 => ?_)
  · refine zm_iast (pc := 65) 44 27 zm_p44 dX10_views_65 (fun M10 => ?_)
    refine zs_aload_n (pc := 66) 0 dX10_views_66 rfl rfl ?_
    refine zm_geta (pc := 67) 44 27 (by decide) rfl q1577 dX10_views_67 ?_
    refine zs_iconst (pc := 70) (v := 5) dX10_views_70 rfl ?_
    refine zs_iload_n (pc := 71) 1 dX10_views_71 rfl rfl ?_
    refine zm_iast (pc := 72) 44 27 zm_p44 dX10_views_72 (fun M11 => ?_)
    refine zs_aload_n (pc := 73) 0 dX10_views_73 rfl rfl ?_
    refine zm_geta (pc := 74) 44 27 (by decide) rfl q1577 dX10_views_74 ?_
    refine zs_bipush (pc := 77) (v := 6) dX10_views_77 (by decide) ?_
    refine zs_aload_n (pc := 79) 0 dX10_views_79 rfl rfl ?_
    refine zm_geta (pc := 80) 48 30 (by decide) rfl q1581 dX10_views_80 ?_
    refine zs_bipush (pc := 83) (v := 24) dX10_views_83 (by decide) ?_
    refine zm_iald (pc := 85) 48 30 zm_p48 dX10_views_85 (fun x12 => ?_)
    refine zm_iast (pc := 86) 44 27 zm_p44 dX10_views_86 (fun M13 => ?_)
    refine zs_aload_n (pc := 87) 0 dX10_views_87 rfl rfl ?_
    refine zm_geta (pc := 88) 44 27 (by decide) rfl q1577 dX10_views_88 ?_
    refine zs_bipush (pc := 91) (v := 7) dX10_views_91 (by decide) ?_
    refine zs_aload_n (pc := 93) 0 dX10_views_93 rfl rfl ?_
    refine zm_geta (pc := 94) 48 30 (by decide) rfl q1581 dX10_views_94 ?_
    refine zs_bipush (pc := 97) (v := 18) dX10_views_97 (by decide) ?_
    refine zs_iload_n (pc := 99) 1 dX10_views_99 rfl rfl ?_
    refine zs_iadd (pc := 100) dX10_views_100 ?_
    refine zm_iald (pc := 101) 48 30 zm_p48 dX10_views_101 (fun x14 => ?_)
    refine zm_iast (pc := 102) 44 27 zm_p44 dX10_views_102 (fun M15 => ?_)
    refine zs_aload_n (pc := 103) 0 dX10_views_103 rfl rfl ?_
    refine zm_geta (pc := 104) 44 27 (by decide) rfl q1577 dX10_views_104 ?_
    refine zs_bipush (pc := 107) (v := 8) dX10_views_107 (by decide) ?_
    refine zs_iconst (pc := 109) (v := 0) dX10_views_109 rfl ?_
    refine zm_iast (pc := 110) 44 27 zm_p44 dX10_views_110 (fun M16 => ?_)
    exact zs_vret (pc := 111) dX10_views_111 rfl rfl
  · refine zs_if_f (pc := 53) (tgt := 64) dX10_views_53 (by decide) ?_ ?_
    · refine zs_aload_n (pc := 56) 0 dX10_views_56 rfl rfl ?_
      refine zs_iload_n (pc := 57) 1 dX10_views_57 rfl rfl ?_
      refine zs_callVrI (pc := 58) [.int a1] [.int 4, .ref (m + (27 + 1))] (km_placeOf D h0 m M7 a1) kv_placeOf q1885 zc_X10 zm_recv dX10_views_58 rfl rfl (Nat.le_of_ble_eq_true rfl) (Nat.le_of_ble_eq_true rfl) (fun x17 => ?_)
      refine zs_goto (pc := 61) (tgt := 65) dX10_views_61 (by decide) ?_
      exact h65 x17
    · refine zs_iconst (pc := 64) (v := 0) dX10_views_64 rfl ?_
      exact h65 0
theorem kv_termOf : zs_mV RX10 yX10_termOf cX10_termOf 8 (some .int) 2 := ⟨q1907, qs94, q152, q1908, by decide, by decide +kernel⟩
def gm_termOf_L5 (a2 : Int32) : (Int32 × Int32 × zm_S) → Option ((Int32 × Int32 × zm_S) ⊕ ((zm_S) ⊕ (Int32 × zm_S))) := fun t5 =>
if t5.2.1 < a2 then ((zs_ald 840 (t5.2.2.2.1 40) t5.2.1).bind fun x1 =>
zs_let (fun (p2 : Int32 × zm_S) => some (Sum.inl (p2.1, (t5.2.1 + 1), p2.2))) fun J159 =>
if x1 < 2 then ((if x1 = 0 then ((zs_ald 840 (t5.2.2.2.1 41) t5.2.1).bind fun x14 =>
some x14)
else ((zs_ald 840 (t5.2.2.2.1 41) t5.2.1).bind fun x12 =>
(zs_ald 9 (t5.2.2.2.1 44) x12).bind fun x13 =>
some x13)).bind fun (p10 : Int32) =>
(zs_ast 400 t5.1 (zm_sA t5.2.2 45 t5.1 p10)).bind fun M11 =>
J159 ((t5.1 + 1), M11))
else ((zs_ald 400 (t5.2.2.2.1 45) ((t5.1 + (-1)) - 1)).bind fun x3 =>
(zs_ald 400 (t5.2.2.2.1 45) (t5.1 + (-1))).bind fun x4 =>
zs_let (fun (p5 : Unit) => (if x1 = 2 then (some (x3 + x4))
else (if x1 = 3 then (some (x3 - x4))
else (if x1 = 4 then (some (x3 * x4))
else ((zs_div x3 x4).bind fun x8 =>
some x8)))).bind fun (p6 : Int32) =>
(zs_ast 400 ((t5.1 + (-1)) - 1) (zm_sA t5.2.2 45 ((t5.1 + (-1)) - 1) p6)).bind fun M7 =>
J159 ((t5.1 + (-1)), M7)) fun J104 =>
if x1 = 5 then (if x4 = 0 then ((some (zm_sF t5.2.2 46 1)).bind fun M9 =>
some (Sum.inr (Sum.inr (0, M9))))
else (J104 ()))
else (J104 ())))
else (some (Sum.inr (Sum.inl t5.2.2)))
def gm_termOf (M : zm_S) (a1 : Int32) (a2 : Int32) : Option (Int32 × zm_S) :=
(zs_loop 5000 (gm_termOf_L5 a2) (0, a1, M)).bind (Sum.elim (fun (r15 : zm_S) =>
(zs_ald 400 (r15.2.1 45) 0).bind fun x16 =>
some (x16, r15))
 (fun z => some z))
set_option maxHeartbeats 4000000 in
theorem km_termOf (D : zs_D) (h0 : zs_AH) (m : Nat) (M : zm_S) (a1 : Int32) (a2 : Int32) : zs_Con D (zm_R h0 m) zm_bd zs_eI yX10_termOf cX10_termOf 8 (some .int) 0 [.ref m, .int a1, .int a2] M (gm_termOf M a1 a2) := by
  unfold gm_termOf
  refine zs_con (own := RX10) (nm := "termOf") pl_X10 rfl rfl (Nat.le_of_ble_eq_true rfl) ?_
  refine zs_lv (lv' := [(0, .ref m), (1, .int a1), (2, .int a2)]) rfl ?_
  refine zs_iconst (pc := 0) (v := 0) dX10_termOf_0 rfl ?_
  refine zs_istore_n (pc := 1) (lv' := [(0, .ref m), (1, .int a1), (2, .int a2), (3, .int 0)]) [1, 2, 3, 0] dX10_termOf_1 rfl (by decide) rfl ?_
  refine zs_iload_n (pc := 2) 1 dX10_termOf_2 rfl rfl ?_
  refine zs_istore (pc := 3) (lv' := [(0, .ref m), (1, .int a1), (2, .int a2), (3, .int 0), (4, .int a1)]) [1, 2, 3, 4, 0] dX10_termOf_3 (by decide) rfl ?_
  refine zs_sub (pc := 5) (lv' := [(0, .ref m), (2, .int a2), (3, .int 0), (4, .int a1)]) [0, 2, 3, 4] rfl ?_
  refine zs_whileR (pc := 5) (fun (t5 : Int32 × Int32 × zm_S) => t5.2.2) (fun (t5 : Int32 × Int32 × zm_S) => [(0, .ref m), (2, .int a2), (3, .int t5.1), (4, .int t5.2.1)]) 5000 (0, a1, M) (fun (r15 : zm_S) => r15) 165 (fun (r15 : zm_S) => [(0, .ref m)]) [] (fun r15 => ?_) (fun X5 hL5 hE5 hR5 t5 => ?_)
  · refine zs_aload_n (pc := 165) 0 dX10_termOf_165 rfl rfl ?_
    refine zm_geta (pc := 166) 45 28 (by decide) rfl q1578 dX10_termOf_166 ?_
    refine zs_iconst (pc := 169) (v := 0) dX10_termOf_169 rfl ?_
    refine zm_iald (pc := 170) 45 28 zm_p45 dX10_termOf_170 (fun x16 => ?_)
    exact zs_iret (pc := 171) dX10_termOf_171 rfl rfl rfl
  · unfold gm_termOf_L5
    refine zs_iload (pc := 5) 3 dX10_termOf_5 rfl ?_
    refine zs_iload_n (pc := 7) 1 dX10_termOf_7 rfl rfl ?_
    refine zs_icmp_ge (pc := 8) (tgt := 165) dX10_termOf_8 (by decide) ?_ ?_
    · refine zs_aload_n (pc := 11) 0 dX10_termOf_11 rfl rfl ?_
      refine zm_geta (pc := 12) 40 24 (by decide) rfl q1573 dX10_termOf_12 ?_
      refine zs_iload (pc := 15) 3 dX10_termOf_15 rfl ?_
      refine zm_iald (pc := 17) 40 24 zm_p40 dX10_termOf_17 (fun x1 => ?_)
      refine zs_istore (pc := 18) (lv' := [(0, .ref m), (2, .int a2), (3, .int t5.1), (4, .int t5.2.1), (5, .int x1)]) [1, 2, 3, 4, 0] dX10_termOf_18 (by decide) rfl ?_
      refine zs_iload (pc := 20) 4 dX10_termOf_20 rfl ?_
      refine zs_iconst (pc := 22) (v := 2) dX10_termOf_22 rfl ?_
      refine zs_letJ (pc := 23) (fun (p2 : Int32 × zm_S) => p2.2) 159 (fun (p2 : Int32 × zm_S) => [(0, .ref m), (2, .int a2), (3, .int p2.1), (4, .int t5.2.1)]) (fun (p2 : Int32 × zm_S) => []) (fun p2 => ?_) (fun J159 h159 => ?_)
      · refine zs_iinc (pc := 159) (lv' := [(0, .ref m), (2, .int a2), (3, .int p2.1), (4, .int (t5.2.1 + 1))]) 3 [1, 2, 3, 0] dX10_termOf_159 rfl rfl (by decide) rfl ?_
        refine zs_goto (pc := 162) (tgt := 5) dX10_termOf_162 (by decide) ?_
        exact hL5 (p2.1, (t5.2.1 + 1), p2.2)
      · refine zs_icmp_ge (pc := 23) (tgt := 65) dX10_termOf_23 (by decide) ?_ ?_
        · refine zs_aload_n (pc := 26) 0 dX10_termOf_26 rfl rfl ?_
          refine zm_geta (pc := 27) 45 28 (by decide) rfl q1578 dX10_termOf_27 ?_
          refine zs_iload_n (pc := 30) 2 dX10_termOf_30 rfl rfl ?_
          refine zs_iload (pc := 31) 4 dX10_termOf_31 rfl ?_
          refine zs_join (pc := 33) (fun (p10 : Int32) => t5.2.2) 58 (fun (p10 : Int32) => [(0, .ref m), (2, .int a2), (3, .int t5.1), (4, .int t5.2.1)]) (fun (p10 : Int32) => [.int p10, .int t5.1, .ref (m + (28 + 1))]) (fun p10 => ?_) (fun h58 => ?_)
          · refine zm_iast (pc := 58) 45 28 zm_p45 dX10_termOf_58 (fun M11 => ?_)
            refine zs_iinc (pc := 59) (lv' := [(0, .ref m), (2, .int a2), (3, .int (t5.1 + 1)), (4, .int t5.2.1)]) 2 [1, 2, 0, 3] dX10_termOf_59 rfl rfl (by decide) rfl ?_
            refine zs_goto (pc := 62) (tgt := 159) dX10_termOf_62 (by decide) ?_
            exact h159 ((t5.1 + 1), M11)
          · refine zs_if_ne (pc := 33) (tgt := 46) dX10_termOf_33 (by decide) ?_ ?_
            · refine zs_aload_n (pc := 36) 0 dX10_termOf_36 rfl rfl ?_
              refine zm_geta (pc := 37) 41 25 (by decide) rfl q1574 dX10_termOf_37 ?_
              refine zs_iload (pc := 40) 3 dX10_termOf_40 rfl ?_
              refine zm_iald (pc := 42) 41 25 zm_p41 dX10_termOf_42 (fun x14 => ?_)
              refine zs_goto (pc := 43) (tgt := 58) dX10_termOf_43 (by decide) ?_
              refine zs_sub (lv' := [(0, .ref m), (2, .int a2), (3, .int t5.1), (4, .int t5.2.1)]) [0, 1, 2, 3] rfl ?_
              exact h58 x14
            · refine zs_aload_n (pc := 46) 0 dX10_termOf_46 rfl rfl ?_
              refine zm_geta (pc := 47) 44 27 (by decide) rfl q1577 dX10_termOf_47 ?_
              refine zs_aload_n (pc := 50) 0 dX10_termOf_50 rfl rfl ?_
              refine zm_geta (pc := 51) 41 25 (by decide) rfl q1574 dX10_termOf_51 ?_
              refine zs_iload (pc := 54) 3 dX10_termOf_54 rfl ?_
              refine zm_iald (pc := 56) 41 25 zm_p41 dX10_termOf_56 (fun x12 => ?_)
              refine zm_iald (pc := 57) 44 27 zm_p44 dX10_termOf_57 (fun x13 => ?_)
              refine zs_sub (lv' := [(0, .ref m), (2, .int a2), (3, .int t5.1), (4, .int t5.2.1)]) [0, 1, 2, 3] rfl ?_
              exact h58 x13
        · refine zs_iinc (pc := 65) (lv' := [(0, .ref m), (2, .int a2), (3, .int (t5.1 + (-1))), (4, .int t5.2.1), (5, .int x1)]) 2 [1, 2, 0, 3, 4] dX10_termOf_65 rfl rfl (by decide) rfl ?_
          refine zs_aload_n (pc := 68) 0 dX10_termOf_68 rfl rfl ?_
          refine zm_geta (pc := 69) 45 28 (by decide) rfl q1578 dX10_termOf_69 ?_
          refine zs_iload_n (pc := 72) 2 dX10_termOf_72 rfl rfl ?_
          refine zs_iconst (pc := 73) (v := 1) dX10_termOf_73 rfl ?_
          refine zs_isub (pc := 74) dX10_termOf_74 ?_
          refine zm_iald (pc := 75) 45 28 zm_p45 dX10_termOf_75 (fun x3 => ?_)
          refine zs_istore (pc := 76) (lv' := [(0, .ref m), (2, .int a2), (3, .int (t5.1 + (-1))), (4, .int t5.2.1), (5, .int x1), (6, .int x3)]) [1, 2, 3, 4, 5, 0] dX10_termOf_76 (by decide) rfl ?_
          refine zs_aload_n (pc := 78) 0 dX10_termOf_78 rfl rfl ?_
          refine zm_geta (pc := 79) 45 28 (by decide) rfl q1578 dX10_termOf_79 ?_
          refine zs_iload_n (pc := 82) 2 dX10_termOf_82 rfl rfl ?_
          refine zm_iald (pc := 83) 45 28 zm_p45 dX10_termOf_83 (fun x4 => ?_)
          refine zs_istore (pc := 84) (lv' := [(0, .ref m), (2, .int a2), (3, .int (t5.1 + (-1))), (4, .int t5.2.1), (5, .int x1), (6, .int x3), (7, .int x4)]) [1, 2, 3, 4, 5, 6, 0] dX10_termOf_84 (by decide) rfl ?_
          refine zs_iload (pc := 86) 4 dX10_termOf_86 rfl ?_
          refine zs_iconst (pc := 88) (v := 5) dX10_termOf_88 rfl ?_
          refine zs_letJ (pc := 89) (fun (p5 : Unit) => t5.2.2) 104 (fun (p5 : Unit) => [(0, .ref m), (2, .int a2), (3, .int (t5.1 + (-1))), (4, .int t5.2.1), (5, .int x1), (6, .int x3), (7, .int x4)]) (fun (p5 : Unit) => []) (fun p5 => ?_) (fun J104 h104 => ?_)
          · refine zs_aload_n (pc := 104) 0 dX10_termOf_104 rfl rfl ?_
            refine zm_geta (pc := 105) 45 28 (by decide) rfl q1578 dX10_termOf_105 ?_
            refine zs_iload_n (pc := 108) 2 dX10_termOf_108 rfl rfl ?_
            refine zs_iconst (pc := 109) (v := 1) dX10_termOf_109 rfl ?_
            refine zs_isub (pc := 110) dX10_termOf_110 ?_
            refine zs_iload (pc := 111) 4 dX10_termOf_111 rfl ?_
            refine zs_iconst (pc := 113) (v := 2) dX10_termOf_113 rfl ?_
            refine zs_join (pc := 114) (fun (p6 : Int32) => t5.2.2) 158 (fun (p6 : Int32) => [(0, .ref m), (2, .int a2), (3, .int (t5.1 + (-1))), (4, .int t5.2.1)]) (fun (p6 : Int32) => [.int p6, .int ((t5.1 + (-1)) - 1), .ref (m + (28 + 1))]) (fun p6 => ?_) (fun h158 => ?_)
            · refine zm_iast (pc := 158) 45 28 zm_p45 dX10_termOf_158 (fun M7 => ?_)
              exact h159 ((t5.1 + (-1)), M7)
            · refine zs_icmp_ne (pc := 114) (tgt := 125) dX10_termOf_114 (by decide) ?_ ?_
              · refine zs_iload (pc := 117) 5 dX10_termOf_117 rfl ?_
                refine zs_iload (pc := 119) 6 dX10_termOf_119 rfl ?_
                refine zs_iadd (pc := 121) dX10_termOf_121 ?_
                refine zs_goto (pc := 122) (tgt := 158) dX10_termOf_122 (by decide) ?_
                refine zs_sub (lv' := [(0, .ref m), (2, .int a2), (3, .int (t5.1 + (-1))), (4, .int t5.2.1)]) [0, 1, 2, 3] rfl ?_
                exact h158 (x3 + x4)
              · refine zs_iload (pc := 125) 4 dX10_termOf_125 rfl ?_
                refine zs_iconst (pc := 127) (v := 3) dX10_termOf_127 rfl ?_
                refine zs_icmp_ne (pc := 128) (tgt := 139) dX10_termOf_128 (by decide) ?_ ?_
                · refine zs_iload (pc := 131) 5 dX10_termOf_131 rfl ?_
                  refine zs_iload (pc := 133) 6 dX10_termOf_133 rfl ?_
                  refine zs_isub (pc := 135) dX10_termOf_135 ?_
                  refine zs_goto (pc := 136) (tgt := 158) dX10_termOf_136 (by decide) ?_
                  refine zs_sub (lv' := [(0, .ref m), (2, .int a2), (3, .int (t5.1 + (-1))), (4, .int t5.2.1)]) [0, 1, 2, 3] rfl ?_
                  exact h158 (x3 - x4)
                · refine zs_iload (pc := 139) 4 dX10_termOf_139 rfl ?_
                  refine zs_iconst (pc := 141) (v := 4) dX10_termOf_141 rfl ?_
                  refine zs_icmp_ne (pc := 142) (tgt := 153) dX10_termOf_142 (by decide) ?_ ?_
                  · refine zs_iload (pc := 145) 5 dX10_termOf_145 rfl ?_
                    refine zs_iload (pc := 147) 6 dX10_termOf_147 rfl ?_
                    refine zs_imul (pc := 149) dX10_termOf_149 ?_
                    refine zs_goto (pc := 150) (tgt := 158) dX10_termOf_150 (by decide) ?_
                    refine zs_sub (lv' := [(0, .ref m), (2, .int a2), (3, .int (t5.1 + (-1))), (4, .int t5.2.1)]) [0, 1, 2, 3] rfl ?_
                    exact h158 (x3 * x4)
                  · refine zs_iload (pc := 153) 5 dX10_termOf_153 rfl ?_
                    refine zs_iload (pc := 155) 6 dX10_termOf_155 rfl ?_
                    refine zs_idiv (pc := 157) dX10_termOf_157 (fun x8 => ?_)
                    refine zs_sub (lv' := [(0, .ref m), (2, .int a2), (3, .int (t5.1 + (-1))), (4, .int t5.2.1)]) [0, 1, 2, 3] rfl ?_
                    exact h158 x8
          · refine zs_icmp_ne (pc := 89) (tgt := 104) dX10_termOf_89 (by decide) ?_ ?_
            · refine zs_iload (pc := 92) 6 dX10_termOf_92 rfl ?_
              refine zs_if_ne (pc := 94) (tgt := 104) dX10_termOf_94 (by decide) ?_ ?_
              · refine zs_aload_n (pc := 97) 0 dX10_termOf_97 rfl rfl ?_
                refine zs_iconst (pc := 98) (v := 1) dX10_termOf_98 rfl ?_
                refine zm_puti (pc := 99) 46 (by decide) rfl q1579 rfl rfl rfl dX10_termOf_99 ?_
                refine zs_nmM (fun M9 => ?_)
                refine zs_iconst (pc := 102) (v := 0) dX10_termOf_102 rfl ?_
                exact zs_iret (pc := 103) dX10_termOf_103 ((hR5 _).trans rfl) rfl rfl
              · exact h104 ()
            · exact h104 ()
    · refine zs_sub (lv' := [(0, .ref m)]) [0] rfl ?_
      exact hE5 t5.2.2
theorem kv_lawTells : zs_mV RX10 yX10_lawTells cX10_lawTells 7 (some .int) 2 := ⟨q1903, qs93, q152, q1904, by decide, by decide +kernel⟩
def gm_lawTells_L39 (x1 : Int32) : (Int32 × zm_S) → Option ((Int32 × zm_S) ⊕ ((Int32 × zm_S) ⊕ (Int32 × zm_S))) := fun t39 =>
(zs_ald 8 (t39.2.2.1 32) x1).bind fun x6 =>
if t39.1 < x6 then ((zs_ald 260 (t39.2.2.1 34) t39.1).bind fun x7 =>
if x7 = 0 then (some (Sum.inr (Sum.inl (t39.1, t39.2))))
else ((zs_ald 260 (t39.2.2.1 35) t39.1).bind fun x8 =>
(zs_ald 260 (t39.2.2.1 36) t39.1).bind fun x9 =>
(gm_termOf t39.2 x8 x9).bind fun p10 =>
(zs_ald 260 (p10.2.2.1 36) t39.1).bind fun x11 =>
(zs_ald 260 (p10.2.2.1 37) t39.1).bind fun x12 =>
(gm_termOf p10.2 x11 x12).bind fun p13 =>
if (p13.2.1 46) = 0 then (if p10.1 < p13.1 then (some (Sum.inr (Sum.inl (t39.1, p13.2))))
else (some (Sum.inl ((t39.1 + 1), p13.2))))
else (some (Sum.inr (Sum.inr (0, p13.2))))))
else (some (Sum.inr (Sum.inr (0, t39.2))))
def gm_lawTells (M : zm_S) (a1 : Int32) (a2 : Int32) : Option (Int32 × zm_S) :=
(some ((4 * (M.1 18)) + a1)).bind fun x1 =>
(zs_ald 8 (M.2.1 31) x1).bind fun x2 =>
(zs_ald 8 (M.2.1 32) x1).bind fun x3 =>
if x2 = x3 then (some (a2, M))
else ((some (zm_sF M 46 0)).bind fun M4 =>
(zs_ald 8 (M4.2.1 31) x1).bind fun x5 =>
(zs_loop 5000 (gm_lawTells_L39 x1) (x5, M4)).bind (Sum.elim (fun (r14 : Int32 × zm_S) =>
(zs_ald 260 (r14.2.2.1 37) r14.1).bind fun x15 =>
(zs_ald 260 (r14.2.2.1 38) r14.1).bind fun x16 =>
(gm_termOf r14.2 x15 x16).bind fun p17 =>
if (p17.2.1 46) = 0 then (some (p17.1, p17.2))
else (some (0, p17.2)))
 (fun z => some z)))
set_option maxHeartbeats 4000000 in
theorem km_lawTells (D : zs_D) (h0 : zs_AH) (m : Nat) (M : zm_S) (a1 : Int32) (a2 : Int32) : zs_Con D (zm_R h0 m) zm_bd zs_eI yX10_lawTells cX10_lawTells 7 (some .int) 1 [.ref m, .int a1, .int a2] M (gm_lawTells M a1 a2) := by
  unfold gm_lawTells
  refine zs_con (own := RX10) (nm := "lawTells") pl_X10 rfl rfl (Nat.le_of_ble_eq_true rfl) ?_
  refine zs_lv (lv' := [(0, .ref m), (1, .int a1), (2, .int a2)]) rfl ?_
  refine zs_iconst (pc := 0) (v := 4) dX10_lawTells_0 rfl ?_
  refine zs_aload_n (pc := 1) 0 dX10_lawTells_1 rfl rfl ?_
  refine zm_geti (pc := 2) 18 (by decide) rfl q1551 dX10_lawTells_2 ?_
  refine zs_imul (pc := 5) dX10_lawTells_5 ?_
  refine zs_iload_n (pc := 6) 1 dX10_lawTells_6 rfl rfl ?_
  refine zs_iadd (pc := 7) dX10_lawTells_7 ?_
  refine zs_nm (fun x1 => ?_)
  refine zs_istore_n (pc := 8) (lv' := [(0, .ref m), (1, .int a1), (2, .int a2), (3, .int x1)]) [1, 2, 3, 0] dX10_lawTells_8 rfl (by decide) rfl ?_
  refine zs_aload_n (pc := 9) 0 dX10_lawTells_9 rfl rfl ?_
  refine zm_geta (pc := 10) 31 17 (by decide) rfl q1564 dX10_lawTells_10 ?_
  refine zs_iload_n (pc := 13) 3 dX10_lawTells_13 rfl rfl ?_
  refine zm_iald (pc := 14) 31 17 zm_p31 dX10_lawTells_14 (fun x2 => ?_)
  refine zs_aload_n (pc := 15) 0 dX10_lawTells_15 rfl rfl ?_
  refine zm_geta (pc := 16) 32 18 (by decide) rfl q1565 dX10_lawTells_16 ?_
  refine zs_iload_n (pc := 19) 3 dX10_lawTells_19 rfl rfl ?_
  refine zm_iald (pc := 20) 32 18 zm_p32 dX10_lawTells_20 (fun x3 => ?_)
  refine zs_icmp_ne (pc := 21) (tgt := 26) dX10_lawTells_21 (by decide) ?_ ?_
  · refine zs_iload_n (pc := 24) 2 dX10_lawTells_24 rfl rfl ?_
    exact zs_iret (pc := 25) dX10_lawTells_25 rfl rfl rfl
  · refine zs_aload_n (pc := 26) 0 dX10_lawTells_26 rfl rfl ?_
    refine zs_iconst (pc := 27) (v := 0) dX10_lawTells_27 rfl ?_
    refine zm_puti (pc := 28) 46 (by decide) rfl q1579 rfl rfl rfl dX10_lawTells_28 ?_
    refine zs_nmM (fun M4 => ?_)
    refine zs_aload_n (pc := 31) 0 dX10_lawTells_31 rfl rfl ?_
    refine zm_geta (pc := 32) 31 17 (by decide) rfl q1564 dX10_lawTells_32 ?_
    refine zs_iload_n (pc := 35) 3 dX10_lawTells_35 rfl rfl ?_
    refine zm_iald (pc := 36) 31 17 zm_p31 dX10_lawTells_36 (fun x5 => ?_)
    refine zs_istore (pc := 37) (lv' := [(0, .ref m), (1, .int a1), (2, .int a2), (3, .int x1), (4, .int x5)]) [1, 2, 3, 4, 0] dX10_lawTells_37 (by decide) rfl ?_
    refine zs_sub (pc := 39) (lv' := [(0, .ref m), (3, .int x1), (4, .int x5)]) [0, 3, 4] rfl ?_
    refine zs_whileR (pc := 39) (fun (t39 : Int32 × zm_S) => t39.2) (fun (t39 : Int32 × zm_S) => [(0, .ref m), (3, .int x1), (4, .int t39.1)]) 5000 (x5, M4) (fun (r14 : Int32 × zm_S) => r14.2) 119 (fun (r14 : Int32 × zm_S) => [(0, .ref m), (4, .int r14.1)]) [] (fun r14 => ?_) (fun X39 hL39 hE39 hR39 t39 => ?_)
    · refine zs_aload_n (pc := 119) 0 dX10_lawTells_119 rfl rfl ?_
      refine zs_aload_n (pc := 120) 0 dX10_lawTells_120 rfl rfl ?_
      refine zm_geta (pc := 121) 37 22 (by decide) rfl q1570 dX10_lawTells_121 ?_
      refine zs_iload (pc := 124) 1 dX10_lawTells_124 rfl ?_
      refine zm_iald (pc := 126) 37 22 zm_p37 dX10_lawTells_126 (fun x15 => ?_)
      refine zs_aload_n (pc := 127) 0 dX10_lawTells_127 rfl rfl ?_
      refine zm_geta (pc := 128) 38 23 (by decide) rfl q1571 dX10_lawTells_128 ?_
      refine zs_iload (pc := 131) 1 dX10_lawTells_131 rfl ?_
      refine zm_iald (pc := 133) 38 23 zm_p38 dX10_lawTells_133 (fun x16 => ?_)
      refine zs_callVwI (pc := 134) [.int x15, .int x16] [] (km_termOf D h0 m r14.2 x15 x16) kv_termOf q1905 zc_X10 zm_recv dX10_lawTells_134 rfl rfl (Nat.le_of_ble_eq_true rfl) (Nat.le_of_ble_eq_true rfl) (fun p17 => ?_)
      refine zs_istore (pc := 137) (lv' := [(0, .ref m), (4, .int r14.1), (5, .int p17.1)]) [1, 2, 0] dX10_lawTells_137 (by decide) rfl ?_
      refine zs_aload_n (pc := 139) 0 dX10_lawTells_139 rfl rfl ?_
      refine zm_geti (pc := 140) 46 (by decide) rfl q1579 dX10_lawTells_140 ?_
      refine zs_if_eq (pc := 143) (tgt := 150) dX10_lawTells_143 (by decide) ?_ ?_
      · refine zs_iload (pc := 150) 2 dX10_lawTells_150 rfl ?_
        exact zs_iret (pc := 152) dX10_lawTells_152 rfl rfl rfl
      · refine zs_iconst (pc := 146) (v := 0) dX10_lawTells_146 rfl ?_
        refine zs_goto (pc := 147) (tgt := 152) dX10_lawTells_147 (by decide) ?_
        exact zs_iret (pc := 152) dX10_lawTells_152 rfl rfl rfl
    · unfold gm_lawTells_L39
      refine zs_iload (pc := 39) 2 dX10_lawTells_39 rfl ?_
      refine zs_aload_n (pc := 41) 0 dX10_lawTells_41 rfl rfl ?_
      refine zm_geta (pc := 42) 32 18 (by decide) rfl q1565 dX10_lawTells_42 ?_
      refine zs_iload_n (pc := 45) 1 dX10_lawTells_45 rfl rfl ?_
      refine zm_iald (pc := 46) 32 18 zm_p32 dX10_lawTells_46 (fun x6 => ?_)
      refine zs_icmp_ge (pc := 47) (tgt := 159) dX10_lawTells_47 (by decide) ?_ ?_
      · refine zs_aload_n (pc := 50) 0 dX10_lawTells_50 rfl rfl ?_
        refine zm_geta (pc := 51) 34 19 (by decide) rfl q1567 dX10_lawTells_51 ?_
        refine zs_iload (pc := 54) 2 dX10_lawTells_54 rfl ?_
        refine zm_zald (pc := 56) 34 19 zm_p34 dX10_lawTells_56 (fun x7 => ?_)
        refine zs_if_eq (pc := 57) (tgt := 119) dX10_lawTells_57 (by decide) ?_ ?_
        · refine zs_sub (lv' := [(0, .ref m), (4, .int t39.1)]) [0, 2] rfl ?_
          exact hE39 (t39.1, t39.2)
        · refine zs_aload_n (pc := 60) 0 dX10_lawTells_60 rfl rfl ?_
          refine zs_aload_n (pc := 61) 0 dX10_lawTells_61 rfl rfl ?_
          refine zm_geta (pc := 62) 35 20 (by decide) rfl q1568 dX10_lawTells_62 ?_
          refine zs_iload (pc := 65) 2 dX10_lawTells_65 rfl ?_
          refine zm_iald (pc := 67) 35 20 zm_p35 dX10_lawTells_67 (fun x8 => ?_)
          refine zs_aload_n (pc := 68) 0 dX10_lawTells_68 rfl rfl ?_
          refine zm_geta (pc := 69) 36 21 (by decide) rfl q1569 dX10_lawTells_69 ?_
          refine zs_iload (pc := 72) 2 dX10_lawTells_72 rfl ?_
          refine zm_iald (pc := 74) 36 21 zm_p36 dX10_lawTells_74 (fun x9 => ?_)
          refine zs_callVwI (pc := 75) [.int x8, .int x9] [] (km_termOf D h0 m t39.2 x8 x9) kv_termOf q1905 zc_X10 zm_recv dX10_lawTells_75 rfl rfl (Nat.le_of_ble_eq_true rfl) (Nat.le_of_ble_eq_true rfl) (fun p10 => ?_)
          refine zs_istore (pc := 78) (lv' := [(0, .ref m), (3, .int x1), (4, .int t39.1), (5, .int p10.1)]) [1, 2, 3, 0] dX10_lawTells_78 (by decide) rfl ?_
          refine zs_aload_n (pc := 80) 0 dX10_lawTells_80 rfl rfl ?_
          refine zs_aload_n (pc := 81) 0 dX10_lawTells_81 rfl rfl ?_
          refine zm_geta (pc := 82) 36 21 (by decide) rfl q1569 dX10_lawTells_82 ?_
          refine zs_iload (pc := 85) 2 dX10_lawTells_85 rfl ?_
          refine zm_iald (pc := 87) 36 21 zm_p36 dX10_lawTells_87 (fun x11 => ?_)
          refine zs_aload_n (pc := 88) 0 dX10_lawTells_88 rfl rfl ?_
          refine zm_geta (pc := 89) 37 22 (by decide) rfl q1570 dX10_lawTells_89 ?_
          refine zs_iload (pc := 92) 2 dX10_lawTells_92 rfl ?_
          refine zm_iald (pc := 94) 37 22 zm_p37 dX10_lawTells_94 (fun x12 => ?_)
          refine zs_callVwI (pc := 95) [.int x11, .int x12] [] (km_termOf D h0 m p10.2 x11 x12) kv_termOf q1905 zc_X10 zm_recv dX10_lawTells_95 rfl rfl (Nat.le_of_ble_eq_true rfl) (Nat.le_of_ble_eq_true rfl) (fun p13 => ?_)
          refine zs_istore (pc := 98) (lv' := [(0, .ref m), (3, .int x1), (4, .int t39.1), (5, .int p10.1), (6, .int p13.1)]) [1, 2, 3, 4, 0] dX10_lawTells_98 (by decide) rfl ?_
          refine zs_aload_n (pc := 100) 0 dX10_lawTells_100 rfl rfl ?_
          refine zm_geti (pc := 101) 46 (by decide) rfl q1579 dX10_lawTells_101 ?_
          refine zs_if_eq (pc := 104) (tgt := 109) dX10_lawTells_104 (by decide) ?_ ?_
          · refine zs_iload (pc := 109) 3 dX10_lawTells_109 rfl ?_
            refine zs_iload (pc := 111) 4 dX10_lawTells_111 rfl ?_
            refine zs_icmp_lt (pc := 113) (tgt := 119) dX10_lawTells_113 (by decide) ?_ ?_
            · refine zs_sub (lv' := [(0, .ref m), (4, .int t39.1)]) [0, 2] rfl ?_
              exact hE39 (t39.1, p13.2)
            · refine zs_goto (pc := 116) (tgt := 153) dX10_lawTells_116 (by decide) ?_
              refine zs_iinc (pc := 153) (lv' := [(0, .ref m), (3, .int x1), (4, .int (t39.1 + 1)), (5, .int p10.1), (6, .int p13.1)]) 2 [1, 2, 0, 3, 4] dX10_lawTells_153 rfl rfl (by decide) rfl ?_
              refine zs_goto (pc := 156) (tgt := 39) dX10_lawTells_156 (by decide) ?_
              refine zs_sub (lv' := [(0, .ref m), (3, .int x1), (4, .int (t39.1 + 1))]) [0, 1, 2] rfl ?_
              exact hL39 ((t39.1 + 1), p13.2)
          · refine zs_iconst (pc := 107) (v := 0) dX10_lawTells_107 rfl ?_
            exact zs_iret (pc := 108) dX10_lawTells_108 ((hR39 _).trans rfl) rfl rfl
      · refine zs_iconst (pc := 159) (v := 0) dX10_lawTells_159 rfl ?_
        exact zs_iret (pc := 160) dX10_lawTells_160 ((hR39 _).trans rfl) rfl rfl
theorem kv_within : zs_mS yX10_within cX10_within 3 (some .int) 3 := ⟨q1910, q152, q1911, by decide, by decide +kernel⟩
def gm_within (a0 : Int32) (a1 : Int32) (a2 : Int32) : Option (Int32) :=
if a0 < a1 then (some a1)
else (if a2 < a0 then (some a2)
else (some a0))
set_option maxHeartbeats 4000000 in
theorem km_within {σ : Type} (D : zs_D) (Rl : σ → zs_AH → Prop) (bd : σ → Nat × Nat) (M : σ) (a0 : Int32) (a1 : Int32) (a2 : Int32) : zs_Con D Rl bd zs_eI yX10_within cX10_within 3 (some .int) 0 [.int a0, .int a1, .int a2] M ((gm_within a0 a1 a2).map fun x => (x, M)) := by
  unfold gm_within
  refine zs_conR (own := RX10) (nm := "within") pl_X10 rfl rfl (Nat.le_of_ble_eq_true rfl) ?_
  refine zs_lv (lv' := [(0, .int a0), (1, .int a1), (2, .int a2)]) rfl ?_
  refine zs_iload_n (pc := 0) 0 dX10_within_0 rfl rfl ?_
  refine zs_iload_n (pc := 1) 1 dX10_within_1 rfl rfl ?_
  refine zs_icmp_ge (pc := 2) (tgt := 9) dX10_within_2 (by decide) ?_ ?_
  · refine zs_iload_n (pc := 5) 1 dX10_within_5 rfl rfl ?_
    refine zs_goto (pc := 6) (tgt := 19) dX10_within_6 (by decide) ?_
    exact zs_iret (pc := 19) dX10_within_19 rfl rfl rfl
  · refine zs_iload_n (pc := 9) 0 dX10_within_9 rfl rfl ?_
    refine zs_iload_n (pc := 10) 2 dX10_within_10 rfl rfl ?_
    refine zs_icmp_le (pc := 11) (tgt := 18) dX10_within_11 (by decide) ?_ ?_
    · refine zs_iload_n (pc := 14) 2 dX10_within_14 rfl rfl ?_
      refine zs_goto (pc := 15) (tgt := 19) dX10_within_15 (by decide) ?_
      exact zs_iret (pc := 19) dX10_within_19 rfl rfl rfl
    · refine zs_iload_n (pc := 18) 0 dX10_within_18 rfl rfl ?_
      exact zs_iret (pc := 19) dX10_within_19 rfl rfl rfl
theorem kv_growsOf : zs_mV RX10 yX10_growsOf cX10_growsOf 2 (some .int) 1 := ⟨q1891, qs90, q152, q1892, by decide, by decide +kernel⟩
def gm_growsOf (M : zm_S) (a1 : Int32) : Option (Int32 × zm_S) :=
(gm_views M a1).bind fun M1 =>
(gm_lawTells M1 0 1).bind fun p2 =>
(gm_within p2.1 0 99).bind fun x3 =>
some (x3, p2.2)
set_option maxHeartbeats 4000000 in
theorem km_growsOf (D : zs_D) (h0 : zs_AH) (m : Nat) (M : zm_S) (a1 : Int32) : zs_Con D (zm_R h0 m) zm_bd zs_eI yX10_growsOf cX10_growsOf 2 (some .int) 3 [.ref m, .int a1] M (gm_growsOf M a1) := by
  unfold gm_growsOf
  refine zs_con (own := RX10) (nm := "growsOf") pl_X10 rfl rfl (Nat.le_of_ble_eq_true rfl) ?_
  refine zs_lv (lv' := [(0, .ref m), (1, .int a1)]) rfl ?_
  refine zs_aload_n (pc := 0) 0 dX10_growsOf_0 rfl rfl ?_
  refine zs_iload_n (pc := 1) 1 dX10_growsOf_1 rfl rfl ?_
  refine zs_callVv (pc := 2) [.int a1] [] (km_views D h0 m M a1) kv_views q1893 zc_X10 zm_recv dX10_growsOf_2 rfl rfl (Nat.le_of_ble_eq_true rfl) (Nat.le_of_ble_eq_true rfl) (fun M1 => ?_)
  refine zs_aload_n (pc := 5) 0 dX10_growsOf_5 rfl rfl ?_
  refine zs_iconst (pc := 6) (v := 0) dX10_growsOf_6 rfl ?_
  refine zs_iconst (pc := 7) (v := 1) dX10_growsOf_7 rfl ?_
  refine zs_callVwI (pc := 8) [.int 0, .int 1] [] (km_lawTells D h0 m M1 0 1) kv_lawTells q1901 zc_X10 zm_recv dX10_growsOf_8 rfl rfl (Nat.le_of_ble_eq_true rfl) (Nat.le_of_ble_eq_true rfl) (fun p2 => ?_)
  refine zs_iconst (pc := 11) (v := 0) dX10_growsOf_11 rfl ?_
  refine zs_bipush (pc := 12) (v := 99) dX10_growsOf_12 (by decide) ?_
  refine zs_callSrI (pc := 14) [.int p2.1, .int 0, .int 99] [] (km_within D _ _ p2.2 p2.1 0 99) kv_within q1909 dX10_growsOf_14 rfl rfl (Nat.le_of_ble_eq_true rfl) (Nat.le_of_ble_eq_true rfl) (fun x3 => ?_)
  exact zs_iret (pc := 17) dX10_growsOf_17 rfl rfl rfl
theorem kv_weakensOf : zs_mV RX10 yX10_weakensOf cX10_weakensOf 2 (some .int) 1 := ⟨q1914, qs95, q152, q1915, by decide, by decide +kernel⟩
def gm_weakensOf (M : zm_S) (a1 : Int32) : Option (Int32 × zm_S) :=
(gm_views M a1).bind fun M1 =>
(gm_lawTells M1 1 1).bind fun p2 =>
(gm_within p2.1 0 99).bind fun x3 =>
some (x3, p2.2)
set_option maxHeartbeats 4000000 in
theorem km_weakensOf (D : zs_D) (h0 : zs_AH) (m : Nat) (M : zm_S) (a1 : Int32) : zs_Con D (zm_R h0 m) zm_bd zs_eI yX10_weakensOf cX10_weakensOf 2 (some .int) 3 [.ref m, .int a1] M (gm_weakensOf M a1) := by
  unfold gm_weakensOf
  refine zs_con (own := RX10) (nm := "weakensOf") pl_X10 rfl rfl (Nat.le_of_ble_eq_true rfl) ?_
  refine zs_lv (lv' := [(0, .ref m), (1, .int a1)]) rfl ?_
  refine zs_aload_n (pc := 0) 0 dX10_weakensOf_0 rfl rfl ?_
  refine zs_iload_n (pc := 1) 1 dX10_weakensOf_1 rfl rfl ?_
  refine zs_callVv (pc := 2) [.int a1] [] (km_views D h0 m M a1) kv_views q1893 zc_X10 zm_recv dX10_weakensOf_2 rfl rfl (Nat.le_of_ble_eq_true rfl) (Nat.le_of_ble_eq_true rfl) (fun M1 => ?_)
  refine zs_aload_n (pc := 5) 0 dX10_weakensOf_5 rfl rfl ?_
  refine zs_iconst (pc := 6) (v := 1) dX10_weakensOf_6 rfl ?_
  refine zs_iconst (pc := 7) (v := 1) dX10_weakensOf_7 rfl ?_
  refine zs_callVwI (pc := 8) [.int 1, .int 1] [] (km_lawTells D h0 m M1 1 1) kv_lawTells q1901 zc_X10 zm_recv dX10_weakensOf_8 rfl rfl (Nat.le_of_ble_eq_true rfl) (Nat.le_of_ble_eq_true rfl) (fun p2 => ?_)
  refine zs_iconst (pc := 11) (v := 0) dX10_weakensOf_11 rfl ?_
  refine zs_bipush (pc := 12) (v := 99) dX10_weakensOf_12 (by decide) ?_
  refine zs_callSrI (pc := 14) [.int p2.1, .int 0, .int 99] [] (km_within D _ _ p2.2 p2.1 0 99) kv_within q1909 dX10_weakensOf_14 rfl rfl (Nat.le_of_ble_eq_true rfl) (Nat.le_of_ble_eq_true rfl) (fun x3 => ?_)
  exact zs_iret (pc := 17) dX10_weakensOf_17 rfl rfl rfl
theorem kv_costsOf : zs_mV RX10 yX10_costsOf cX10_costsOf 2 (some .int) 1 := ⟨q1918, qs96, q152, q1919, by decide, by decide +kernel⟩
def gm_costsOf (M : zm_S) (a1 : Int32) : Option (Int32 × zm_S) :=
(gm_views M a1).bind fun M1 =>
(zs_ald 9 (M1.2.1 44) 0).bind fun x2 =>
(gm_lawTells M1 3 x2).bind fun p3 =>
(gm_within p3.1 0 99).bind fun x4 =>
some (x4, p3.2)
set_option maxHeartbeats 4000000 in
theorem km_costsOf (D : zs_D) (h0 : zs_AH) (m : Nat) (M : zm_S) (a1 : Int32) : zs_Con D (zm_R h0 m) zm_bd zs_eI yX10_costsOf cX10_costsOf 2 (some .int) 3 [.ref m, .int a1] M (gm_costsOf M a1) := by
  unfold gm_costsOf
  refine zs_con (own := RX10) (nm := "costsOf") pl_X10 rfl rfl (Nat.le_of_ble_eq_true rfl) ?_
  refine zs_lv (lv' := [(0, .ref m), (1, .int a1)]) rfl ?_
  refine zs_aload_n (pc := 0) 0 dX10_costsOf_0 rfl rfl ?_
  refine zs_iload_n (pc := 1) 1 dX10_costsOf_1 rfl rfl ?_
  refine zs_callVv (pc := 2) [.int a1] [] (km_views D h0 m M a1) kv_views q1893 zc_X10 zm_recv dX10_costsOf_2 rfl rfl (Nat.le_of_ble_eq_true rfl) (Nat.le_of_ble_eq_true rfl) (fun M1 => ?_)
  refine zs_aload_n (pc := 5) 0 dX10_costsOf_5 rfl rfl ?_
  refine zs_iconst (pc := 6) (v := 3) dX10_costsOf_6 rfl ?_
  refine zs_aload_n (pc := 7) 0 dX10_costsOf_7 rfl rfl ?_
  refine zm_geta (pc := 8) 44 27 (by decide) rfl q1577 dX10_costsOf_8 ?_
  refine zs_iconst (pc := 11) (v := 0) dX10_costsOf_11 rfl ?_
  refine zm_iald (pc := 12) 44 27 zm_p44 dX10_costsOf_12 (fun x2 => ?_)
  refine zs_callVwI (pc := 13) [.int 3, .int x2] [] (km_lawTells D h0 m M1 3 x2) kv_lawTells q1901 zc_X10 zm_recv dX10_costsOf_13 rfl rfl (Nat.le_of_ble_eq_true rfl) (Nat.le_of_ble_eq_true rfl) (fun p3 => ?_)
  refine zs_iconst (pc := 16) (v := 0) dX10_costsOf_16 rfl ?_
  refine zs_bipush (pc := 17) (v := 99) dX10_costsOf_17 (by decide) ?_
  refine zs_callSrI (pc := 19) [.int p3.1, .int 0, .int 99] [] (km_within D _ _ p3.2 p3.1 0 99) kv_within q1909 dX10_costsOf_19 rfl rfl (Nat.le_of_ble_eq_true rfl) (Nat.le_of_ble_eq_true rfl) (fun x4 => ?_)
  exact zs_iret (pc := 22) dX10_costsOf_22 rfl rfl rfl
theorem kv_house : zs_mV RX10 yX10_house cX10_house 3 (some .int) 2 := ⟨q1863, q1864, q152, q1865, by decide, by decide +kernel⟩
def gm_house (M : zm_S) (a1 : Int32) (a2 : Int32) : Option (Int32 × zm_S) :=
(gm_isHouse M a1).bind fun b1 =>
if b1 = true then ((gm_copies M).bind fun M2 =>
if a2 = 0 then ((zs_ald 33 (M2.2.1 48) a1).bind fun x3 =>
some (x3, M2))
else if a2 = 1 then ((gm_strongFirst M2 a1).bind fun x4 =>
some (x4, M2))
else if a2 = 2 then ((gm_hasPlait M2 a1).bind fun b5 =>
if b5 = true then ((gm_placeOf M2 a1).bind fun x6 =>
some (x6, M2))
else (some ((-2), M2)))
else if a2 = 3 then ((zs_ald 33 (M2.2.1 48) (6 + a1)).bind fun x7 =>
some (x7, M2))
else if a2 = 4 then ((zs_ald 33 (M2.2.1 48) (12 + a1)).bind fun x8 =>
some (x8, M2))
else if a2 = 5 then ((gm_growsOf M2 a1).bind fun p9 =>
some (p9.1, p9.2))
else if a2 = 6 then ((gm_weakensOf M2 a1).bind fun p10 =>
some (p10.1, p10.2))
else if a2 = 7 then ((gm_costsOf M2 a1).bind fun p11 =>
some (p11.1, p11.2))
else if a2 = 8 then ((zs_ald 33 (M2.2.1 48) (18 + a1)).bind fun x12 =>
some (x12, M2))
else (some ((-1), M2)))
else (some ((-1), M))
set_option maxHeartbeats 4000000 in
theorem km_house (D : zs_D) (h0 : zs_AH) (m : Nat) (M : zm_S) (a1 : Int32) (a2 : Int32) : zs_Con D (zm_R h0 m) zm_bd zs_eI yX10_house cX10_house 3 (some .int) 4 [.ref m, .int a1, .int a2] M (gm_house M a1 a2) := by
  unfold gm_house
  refine zs_con (own := RX10) (nm := "house") pl_X10 rfl rfl (Nat.le_of_ble_eq_true rfl) ?_
  refine zs_lv (lv' := [(0, .ref m), (1, .int a1), (2, .int a2)]) rfl ?_
  refine zs_aload_n (pc := 0) 0 dX10_house_0 rfl rfl ?_
  refine zs_iload_n (pc := 1) 1 dX10_house_1 rfl rfl ?_
  refine zs_callVrB (pc := 2) [.int a1] [] (km_isHouse D h0 m M a1) kv_isHouse q1866 zc_X10 zm_recv dX10_house_2 rfl rfl (Nat.le_of_ble_eq_true rfl) (Nat.le_of_ble_eq_true rfl) (fun b1 => ?_)
  refine zs_if_t (pc := 5) (tgt := 10) dX10_house_5 (by decide) ?_ ?_
  · refine zs_aload_n (pc := 10) 0 dX10_house_10 rfl rfl ?_
    refine zs_callVv (pc := 11) [] [] (km_copies D h0 m M) kv_copies q1873 zc_X10 zm_recv dX10_house_11 rfl rfl (Nat.le_of_ble_eq_true rfl) (Nat.le_of_ble_eq_true rfl) (fun M2 => ?_)
    refine zs_iload_n (pc := 14) 2 dX10_house_14 rfl rfl ?_
    refine zs_tsw (pc := 15) [(0, 64), (1, 71), (2, 77), (3, 96), (4, 106), (5, 116), (6, 122), (7, 128), (8, 134)] 144 dX10_house_15 (by decide +kernel) ?_
    refine zs_case ?_ ?_
    · refine zs_aload_n (pc := 64) 0 dX10_house_64 rfl rfl ?_
      refine zm_geta (pc := 65) 48 30 (by decide) rfl q1581 dX10_house_65 ?_
      refine zs_iload_n (pc := 68) 1 dX10_house_68 rfl rfl ?_
      refine zm_iald (pc := 69) 48 30 zm_p48 dX10_house_69 (fun x3 => ?_)
      exact zs_iret (pc := 70) dX10_house_70 rfl rfl rfl
    refine zs_case ?_ ?_
    · refine zs_aload_n (pc := 71) 0 dX10_house_71 rfl rfl ?_
      refine zs_iload_n (pc := 72) 1 dX10_house_72 rfl rfl ?_
      refine zs_callVrI (pc := 73) [.int a1] [] (km_strongFirst D h0 m M2 a1) kv_strongFirst q1877 zc_X10 zm_recv dX10_house_73 rfl rfl (Nat.le_of_ble_eq_true rfl) (Nat.le_of_ble_eq_true rfl) (fun x4 => ?_)
      exact zs_iret (pc := 76) dX10_house_76 rfl rfl rfl
    refine zs_case ?_ ?_
    · refine zs_aload_n (pc := 77) 0 dX10_house_77 rfl rfl ?_
      refine zs_iload_n (pc := 78) 1 dX10_house_78 rfl rfl ?_
      refine zs_callVrB (pc := 79) [.int a1] [] (km_hasPlait D h0 m M2 a1) kv_hasPlait q1881 zc_X10 zm_recv dX10_house_79 rfl rfl (Nat.le_of_ble_eq_true rfl) (Nat.le_of_ble_eq_true rfl) (fun b5 => ?_)
      refine zs_if_f (pc := 82) (tgt := 93) dX10_house_82 (by decide) ?_ ?_
      · refine zs_aload_n (pc := 85) 0 dX10_house_85 rfl rfl ?_
        refine zs_iload_n (pc := 86) 1 dX10_house_86 rfl rfl ?_
        refine zs_callVrI (pc := 87) [.int a1] [] (km_placeOf D h0 m M2 a1) kv_placeOf q1885 zc_X10 zm_recv dX10_house_87 rfl rfl (Nat.le_of_ble_eq_true rfl) (Nat.le_of_ble_eq_true rfl) (fun x6 => ?_)
        refine zs_goto (pc := 90) (tgt := 95) dX10_house_90 (by decide) ?_
        exact zs_iret (pc := 95) dX10_house_95 rfl rfl rfl
      · refine zs_bipush (pc := 93) (v := (-2)) dX10_house_93 (by decide) ?_
        exact zs_iret (pc := 95) dX10_house_95 rfl rfl rfl
    refine zs_case ?_ ?_
    · refine zs_aload_n (pc := 96) 0 dX10_house_96 rfl rfl ?_
      refine zm_geta (pc := 97) 48 30 (by decide) rfl q1581 dX10_house_97 ?_
      refine zs_bipush (pc := 100) (v := 6) dX10_house_100 (by decide) ?_
      refine zs_iload_n (pc := 102) 1 dX10_house_102 rfl rfl ?_
      refine zs_iadd (pc := 103) dX10_house_103 ?_
      refine zm_iald (pc := 104) 48 30 zm_p48 dX10_house_104 (fun x7 => ?_)
      exact zs_iret (pc := 105) dX10_house_105 rfl rfl rfl
    refine zs_case ?_ ?_
    · refine zs_aload_n (pc := 106) 0 dX10_house_106 rfl rfl ?_
      refine zm_geta (pc := 107) 48 30 (by decide) rfl q1581 dX10_house_107 ?_
      refine zs_bipush (pc := 110) (v := 12) dX10_house_110 (by decide) ?_
      refine zs_iload_n (pc := 112) 1 dX10_house_112 rfl rfl ?_
      refine zs_iadd (pc := 113) dX10_house_113 ?_
      refine zm_iald (pc := 114) 48 30 zm_p48 dX10_house_114 (fun x8 => ?_)
      exact zs_iret (pc := 115) dX10_house_115 rfl rfl rfl
    refine zs_case ?_ ?_
    · refine zs_aload_n (pc := 116) 0 dX10_house_116 rfl rfl ?_
      refine zs_iload_n (pc := 117) 1 dX10_house_117 rfl rfl ?_
      refine zs_callVwI (pc := 118) [.int a1] [] (km_growsOf D h0 m M2 a1) kv_growsOf q1889 zc_X10 zm_recv dX10_house_118 rfl rfl (Nat.le_of_ble_eq_true rfl) (Nat.le_of_ble_eq_true rfl) (fun p9 => ?_)
      exact zs_iret (pc := 121) dX10_house_121 rfl rfl rfl
    refine zs_case ?_ ?_
    · refine zs_aload_n (pc := 122) 0 dX10_house_122 rfl rfl ?_
      refine zs_iload_n (pc := 123) 1 dX10_house_123 rfl rfl ?_
      refine zs_callVwI (pc := 124) [.int a1] [] (km_weakensOf D h0 m M2 a1) kv_weakensOf q1912 zc_X10 zm_recv dX10_house_124 rfl rfl (Nat.le_of_ble_eq_true rfl) (Nat.le_of_ble_eq_true rfl) (fun p10 => ?_)
      exact zs_iret (pc := 127) dX10_house_127 rfl rfl rfl
    refine zs_case ?_ ?_
    · refine zs_aload_n (pc := 128) 0 dX10_house_128 rfl rfl ?_
      refine zs_iload_n (pc := 129) 1 dX10_house_129 rfl rfl ?_
      refine zs_callVwI (pc := 130) [.int a1] [] (km_costsOf D h0 m M2 a1) kv_costsOf q1916 zc_X10 zm_recv dX10_house_130 rfl rfl (Nat.le_of_ble_eq_true rfl) (Nat.le_of_ble_eq_true rfl) (fun p11 => ?_)
      exact zs_iret (pc := 133) dX10_house_133 rfl rfl rfl
    refine zs_case ?_ ?_
    · refine zs_aload_n (pc := 134) 0 dX10_house_134 rfl rfl ?_
      refine zm_geta (pc := 135) 48 30 (by decide) rfl q1581 dX10_house_135 ?_
      refine zs_bipush (pc := 138) (v := 18) dX10_house_138 (by decide) ?_
      refine zs_iload_n (pc := 140) 1 dX10_house_140 rfl rfl ?_
      refine zs_iadd (pc := 141) dX10_house_141 ?_
      refine zm_iald (pc := 142) 48 30 zm_p48 dX10_house_142 (fun x12 => ?_)
      exact zs_iret (pc := 143) dX10_house_143 rfl rfl rfl
    refine zs_dflt ?_
    refine zs_iconst (pc := 144) (v := (-1)) dX10_house_144 rfl ?_
    exact zs_iret (pc := 145) dX10_house_145 rfl rfl rfl
  · refine zs_iconst (pc := 8) (v := (-1)) dX10_house_8 rfl ?_
    exact zs_iret (pc := 9) dX10_house_9 rfl rfl rfl
theorem kv_areTwo : zs_mV RX10 yX10_areTwo cX10_areTwo 3 (some .boolean) 2 := ⟨q1926, qs97, q152, q1927, by decide, by decide +kernel⟩
def gm_areTwo (M : zm_S) (a1 : Int32) (a2 : Int32) : Option (Bool) :=
(gm_isHouse M a1).bind fun b1 =>
zs_let (fun (p2 : Unit) => some false) fun J25 =>
if b1 = true then ((gm_isHouse M a2).bind fun b3 =>
if b3 = true then (if a1 = a2 then (J25 ())
else (some true))
else (J25 ()))
else (J25 ())
set_option maxHeartbeats 4000000 in
theorem km_areTwo (D : zs_D) (h0 : zs_AH) (m : Nat) (M : zm_S) (a1 : Int32) (a2 : Int32) : zs_Con D (zm_R h0 m) zm_bd zs_eB yX10_areTwo cX10_areTwo 3 (some .boolean) 2 [.ref m, .int a1, .int a2] M ((gm_areTwo M a1 a2).map fun x => (x, M)) := by
  unfold gm_areTwo
  refine zs_conR (own := RX10) (nm := "areTwo") pl_X10 rfl rfl (Nat.le_of_ble_eq_true rfl) ?_
  refine zs_lv (lv' := [(0, .ref m), (1, .int a1), (2, .int a2)]) rfl ?_
  refine zs_aload_n (pc := 0) 0 dX10_areTwo_0 rfl rfl ?_
  refine zs_iload_n (pc := 1) 1 dX10_areTwo_1 rfl rfl ?_
  refine zs_callVrB (pc := 2) [.int a1] [] (km_isHouse D h0 m M a1) kv_isHouse q1866 zc_X10 zm_recv dX10_areTwo_2 rfl rfl (Nat.le_of_ble_eq_true rfl) (Nat.le_of_ble_eq_true rfl) (fun b1 => ?_)
  refine zs_letJ (pc := 5) (fun (p2 : Unit) => M) 25 (fun (p2 : Unit) => []) (fun (p2 : Unit) => []) (fun p2 => ?_) (fun J25 h25 => ?_)
  · refine zs_iconst (pc := 25) (v := 0) dX10_areTwo_25 rfl ?_
    exact zs_iret (pc := 26) dX10_areTwo_26 rfl rfl rfl
  · refine zs_if_f (pc := 5) (tgt := 25) dX10_areTwo_5 (by decide) ?_ ?_
    · refine zs_aload_n (pc := 8) 0 dX10_areTwo_8 rfl rfl ?_
      refine zs_iload_n (pc := 9) 2 dX10_areTwo_9 rfl rfl ?_
      refine zs_callVrB (pc := 10) [.int a2] [] (km_isHouse D h0 m M a2) kv_isHouse q1866 zc_X10 zm_recv dX10_areTwo_10 rfl rfl (Nat.le_of_ble_eq_true rfl) (Nat.le_of_ble_eq_true rfl) (fun b3 => ?_)
      refine zs_if_f (pc := 13) (tgt := 25) dX10_areTwo_13 (by decide) ?_ ?_
      · refine zs_iload_n (pc := 16) 1 dX10_areTwo_16 rfl rfl ?_
        refine zs_iload_n (pc := 17) 2 dX10_areTwo_17 rfl rfl ?_
        refine zs_icmp_eq (pc := 18) (tgt := 25) dX10_areTwo_18 (by decide) ?_ ?_
        · refine zs_sub (lv' := []) [] rfl ?_
          exact h25 ()
        · refine zs_iconst (pc := 21) (v := 1) dX10_areTwo_21 rfl ?_
          refine zs_goto (pc := 22) (tgt := 26) dX10_areTwo_22 (by decide) ?_
          exact zs_iret (pc := 26) dX10_areTwo_26 rfl rfl rfl
      · refine zs_sub (lv' := []) [] rfl ?_
        exact h25 ()
    · refine zs_sub (lv' := []) [] rfl ?_
      exact h25 ()
theorem kv_likeOf : zs_mV RX10 yX10_likeOf cX10_likeOf 3 (some .int) 2 := ⟨q1930, qs98, q152, q1931, by decide, by decide +kernel⟩
def gm_likeOf (M : zm_S) (a1 : Int32) (a2 : Int32) : Option (Int32) :=
(zs_ald 72 (M.2.1 26) (((36 * (M.1 18)) + (6 * a1)) + a2)).bind fun x1 =>
some x1
set_option maxHeartbeats 4000000 in
theorem km_likeOf (D : zs_D) (h0 : zs_AH) (m : Nat) (M : zm_S) (a1 : Int32) (a2 : Int32) : zs_Con D (zm_R h0 m) zm_bd zs_eI yX10_likeOf cX10_likeOf 3 (some .int) 0 [.ref m, .int a1, .int a2] M ((gm_likeOf M a1 a2).map fun x => (x, M)) := by
  unfold gm_likeOf
  refine zs_conR (own := RX10) (nm := "likeOf") pl_X10 rfl rfl (Nat.le_of_ble_eq_true rfl) ?_
  refine zs_lv (lv' := [(0, .ref m), (1, .int a1), (2, .int a2)]) rfl ?_
  refine zs_aload_n (pc := 0) 0 dX10_likeOf_0 rfl rfl ?_
  refine zm_geta (pc := 1) 26 12 (by decide) rfl q1559 dX10_likeOf_1 ?_
  refine zs_bipush (pc := 4) (v := 36) dX10_likeOf_4 (by decide) ?_
  refine zs_aload_n (pc := 6) 0 dX10_likeOf_6 rfl rfl ?_
  refine zm_geti (pc := 7) 18 (by decide) rfl q1551 dX10_likeOf_7 ?_
  refine zs_imul (pc := 10) dX10_likeOf_10 ?_
  refine zs_bipush (pc := 11) (v := 6) dX10_likeOf_11 (by decide) ?_
  refine zs_iload_n (pc := 13) 1 dX10_likeOf_13 rfl rfl ?_
  refine zs_imul (pc := 14) dX10_likeOf_14 ?_
  refine zs_iadd (pc := 15) dX10_likeOf_15 ?_
  refine zs_iload_n (pc := 16) 2 dX10_likeOf_16 rfl rfl ?_
  refine zs_iadd (pc := 17) dX10_likeOf_17 ?_
  refine zm_iald (pc := 18) 26 12 zm_p26 dX10_likeOf_18 (fun x1 => ?_)
  exact zs_iret (pc := 19) dX10_likeOf_19 rfl rfl rfl
theorem kv_likes : zs_mV RX10 yX10_likes cX10_likes 3 (some .int) 2 := ⟨q1921, q1922, q152, q1923, by decide, by decide +kernel⟩
def gm_likes (M : zm_S) (a1 : Int32) (a2 : Int32) : Option (Int32) :=
(gm_areTwo M a1 a2).bind fun b1 =>
if b1 = true then ((gm_likeOf M a1 a2).bind fun x2 =>
some x2)
else (some (-1))
set_option maxHeartbeats 4000000 in
theorem km_likes (D : zs_D) (h0 : zs_AH) (m : Nat) (M : zm_S) (a1 : Int32) (a2 : Int32) : zs_Con D (zm_R h0 m) zm_bd zs_eI yX10_likes cX10_likes 3 (some .int) 3 [.ref m, .int a1, .int a2] M ((gm_likes M a1 a2).map fun x => (x, M)) := by
  unfold gm_likes
  refine zs_conR (own := RX10) (nm := "likes") pl_X10 rfl rfl (Nat.le_of_ble_eq_true rfl) ?_
  refine zs_lv (lv' := [(0, .ref m), (1, .int a1), (2, .int a2)]) rfl ?_
  refine zs_aload_n (pc := 0) 0 dX10_likes_0 rfl rfl ?_
  refine zs_iload_n (pc := 1) 1 dX10_likes_1 rfl rfl ?_
  refine zs_iload_n (pc := 2) 2 dX10_likes_2 rfl rfl ?_
  refine zs_callVrB (pc := 3) [.int a1, .int a2] [] (km_areTwo D h0 m M a1 a2) kv_areTwo q1924 zc_X10 zm_recv dX10_likes_3 rfl rfl (Nat.le_of_ble_eq_true rfl) (Nat.le_of_ble_eq_true rfl) (fun b1 => ?_)
  refine zs_if_f (pc := 6) (tgt := 18) dX10_likes_6 (by decide) ?_ ?_
  · refine zs_aload_n (pc := 9) 0 dX10_likes_9 rfl rfl ?_
    refine zs_iload_n (pc := 10) 1 dX10_likes_10 rfl rfl ?_
    refine zs_iload_n (pc := 11) 2 dX10_likes_11 rfl rfl ?_
    refine zs_callVrI (pc := 12) [.int a1, .int a2] [] (km_likeOf D h0 m M a1 a2) kv_likeOf q1928 zc_X10 zm_recv dX10_likes_12 rfl rfl (Nat.le_of_ble_eq_true rfl) (Nat.le_of_ble_eq_true rfl) (fun x2 => ?_)
    refine zs_goto (pc := 15) (tgt := 19) dX10_likes_15 (by decide) ?_
    exact zs_iret (pc := 19) dX10_likes_19 rfl rfl rfl
  · refine zs_iconst (pc := 18) (v := (-1)) dX10_likes_18 rfl ?_
    exact zs_iret (pc := 19) dX10_likes_19 rfl rfl rfl
theorem kv_joinsBy : zs_mV RX10 yX10_joinsBy cX10_joinsBy 4 (some .int) 3 := ⟨q1942, qs100, q152, q1943, by decide, by decide +kernel⟩
def gm_joinsBy (M : zm_S) (a1 : Int32) (a2 : Int32) (a3 : Int32) : Option (Int32 × zm_S) :=
(gm_views M a1).bind fun M1 =>
(zs_ast 9 2 (zm_sA M1 44 2 a3)).bind fun M2 =>
(gm_strongOf M2 a2).bind fun x3 =>
(zs_ast 9 8 (zm_sA M2 44 8 x3)).bind fun M4 =>
(gm_lawTells M4 2 (10 * a3)).bind fun p5 =>
(gm_within p5.1 0 999).bind fun x6 =>
some (x6, p5.2)
set_option maxHeartbeats 4000000 in
theorem km_joinsBy (D : zs_D) (h0 : zs_AH) (m : Nat) (M : zm_S) (a1 : Int32) (a2 : Int32) (a3 : Int32) : zs_Con D (zm_R h0 m) zm_bd zs_eI yX10_joinsBy cX10_joinsBy 4 (some .int) 3 [.ref m, .int a1, .int a2, .int a3] M (gm_joinsBy M a1 a2 a3) := by
  unfold gm_joinsBy
  refine zs_con (own := RX10) (nm := "joinsBy") pl_X10 rfl rfl (Nat.le_of_ble_eq_true rfl) ?_
  refine zs_lv (lv' := [(0, .ref m), (1, .int a1), (2, .int a2), (3, .int a3)]) rfl ?_
  refine zs_aload_n (pc := 0) 0 dX10_joinsBy_0 rfl rfl ?_
  refine zs_iload_n (pc := 1) 1 dX10_joinsBy_1 rfl rfl ?_
  refine zs_callVv (pc := 2) [.int a1] [] (km_views D h0 m M a1) kv_views q1893 zc_X10 zm_recv dX10_joinsBy_2 rfl rfl (Nat.le_of_ble_eq_true rfl) (Nat.le_of_ble_eq_true rfl) (fun M1 => ?_)
  refine zs_aload_n (pc := 5) 0 dX10_joinsBy_5 rfl rfl ?_
  refine zm_geta (pc := 6) 44 27 (by decide) rfl q1577 dX10_joinsBy_6 ?_
  refine zs_iconst (pc := 9) (v := 2) dX10_joinsBy_9 rfl ?_
  refine zs_iload_n (pc := 10) 3 dX10_joinsBy_10 rfl rfl ?_
  refine zm_iast (pc := 11) 44 27 zm_p44 dX10_joinsBy_11 (fun M2 => ?_)
  refine zs_aload_n (pc := 12) 0 dX10_joinsBy_12 rfl rfl ?_
  refine zm_geta (pc := 13) 44 27 (by decide) rfl q1577 dX10_joinsBy_13 ?_
  refine zs_bipush (pc := 16) (v := 8) dX10_joinsBy_16 (by decide) ?_
  refine zs_aload_n (pc := 18) 0 dX10_joinsBy_18 rfl rfl ?_
  refine zs_iload_n (pc := 19) 2 dX10_joinsBy_19 rfl rfl ?_
  refine zs_callVrI (pc := 20) [.int a2] [.int 8, .ref (m + (27 + 1))] (km_strongOf D h0 m M2 a2) kv_strongOf q1897 zc_X10 zm_recv dX10_joinsBy_20 rfl rfl (Nat.le_of_ble_eq_true rfl) (Nat.le_of_ble_eq_true rfl) (fun x3 => ?_)
  refine zm_iast (pc := 23) 44 27 zm_p44 dX10_joinsBy_23 (fun M4 => ?_)
  refine zs_aload_n (pc := 24) 0 dX10_joinsBy_24 rfl rfl ?_
  refine zs_iconst (pc := 25) (v := 2) dX10_joinsBy_25 rfl ?_
  refine zs_bipush (pc := 26) (v := 10) dX10_joinsBy_26 (by decide) ?_
  refine zs_iload_n (pc := 28) 3 dX10_joinsBy_28 rfl rfl ?_
  refine zs_imul (pc := 29) dX10_joinsBy_29 ?_
  refine zs_callVwI (pc := 30) [.int 2, .int (10 * a3)] [] (km_lawTells D h0 m M4 2 (10 * a3)) kv_lawTells q1901 zc_X10 zm_recv dX10_joinsBy_30 rfl rfl (Nat.le_of_ble_eq_true rfl) (Nat.le_of_ble_eq_true rfl) (fun p5 => ?_)
  refine zs_iconst (pc := 33) (v := 0) dX10_joinsBy_33 rfl ?_
  refine zs_sipush (pc := 34) (v := 999) dX10_joinsBy_34 (by decide) ?_
  refine zs_callSrI (pc := 37) [.int p5.1, .int 0, .int 999] [] (km_within D _ _ p5.2 p5.1 0 999) kv_within q1909 dX10_joinsBy_37 rfl rfl (Nat.le_of_ble_eq_true rfl) (Nat.le_of_ble_eq_true rfl) (fun x6 => ?_)
  exact zs_iret (pc := 40) dX10_joinsBy_40 rfl rfl rfl
theorem kv_joinsOf : zs_mV RX10 yX10_joinsOf cX10_joinsOf 3 (some .int) 2 := ⟨q1938, qs99, q152, q1939, by decide, by decide +kernel⟩
def gm_joinsOf (M : zm_S) (a1 : Int32) (a2 : Int32) : Option (Int32 × zm_S) :=
(gm_likeOf M a1 a2).bind fun x1 =>
(gm_joinsBy M a1 a2 x1).bind fun p2 =>
some (p2.1, p2.2)
set_option maxHeartbeats 4000000 in
theorem km_joinsOf (D : zs_D) (h0 : zs_AH) (m : Nat) (M : zm_S) (a1 : Int32) (a2 : Int32) : zs_Con D (zm_R h0 m) zm_bd zs_eI yX10_joinsOf cX10_joinsOf 3 (some .int) 4 [.ref m, .int a1, .int a2] M (gm_joinsOf M a1 a2) := by
  unfold gm_joinsOf
  refine zs_con (own := RX10) (nm := "joinsOf") pl_X10 rfl rfl (Nat.le_of_ble_eq_true rfl) ?_
  refine zs_lv (lv' := [(0, .ref m), (1, .int a1), (2, .int a2)]) rfl ?_
  refine zs_aload_n (pc := 0) 0 dX10_joinsOf_0 rfl rfl ?_
  refine zs_iload_n (pc := 1) 1 dX10_joinsOf_1 rfl rfl ?_
  refine zs_iload_n (pc := 2) 2 dX10_joinsOf_2 rfl rfl ?_
  refine zs_aload_n (pc := 3) 0 dX10_joinsOf_3 rfl rfl ?_
  refine zs_iload_n (pc := 4) 1 dX10_joinsOf_4 rfl rfl ?_
  refine zs_iload_n (pc := 5) 2 dX10_joinsOf_5 rfl rfl ?_
  refine zs_callVrI (pc := 6) [.int a1, .int a2] [.int a2, .int a1, .ref m] (km_likeOf D h0 m M a1 a2) kv_likeOf q1928 zc_X10 zm_recv dX10_joinsOf_6 rfl rfl (Nat.le_of_ble_eq_true rfl) (Nat.le_of_ble_eq_true rfl) (fun x1 => ?_)
  refine zs_callVwI (pc := 9) [.int a1, .int a2, .int x1] [] (km_joinsBy D h0 m M a1 a2 x1) kv_joinsBy q1940 zc_X10 zm_recv dX10_joinsOf_9 rfl rfl (Nat.le_of_ble_eq_true rfl) (Nat.le_of_ble_eq_true rfl) (fun p2 => ?_)
  exact zs_iret (pc := 12) dX10_joinsOf_12 rfl rfl rfl
theorem kv_joins : zs_mV RX10 yX10_joins cX10_joins 3 (some .int) 2 := ⟨q1933, q1934, q152, q1935, by decide, by decide +kernel⟩
def gm_joins (M : zm_S) (a1 : Int32) (a2 : Int32) : Option (Int32 × zm_S) :=
(gm_areTwo M a1 a2).bind fun b1 =>
if b1 = true then ((gm_copies M).bind fun M2 =>
(gm_joinsOf M2 a1 a2).bind fun p3 =>
some (p3.1, p3.2))
else (some ((-1), M))
set_option maxHeartbeats 4000000 in
theorem km_joins (D : zs_D) (h0 : zs_AH) (m : Nat) (M : zm_S) (a1 : Int32) (a2 : Int32) : zs_Con D (zm_R h0 m) zm_bd zs_eI yX10_joins cX10_joins 3 (some .int) 5 [.ref m, .int a1, .int a2] M (gm_joins M a1 a2) := by
  unfold gm_joins
  refine zs_con (own := RX10) (nm := "joins") pl_X10 rfl rfl (Nat.le_of_ble_eq_true rfl) ?_
  refine zs_lv (lv' := [(0, .ref m), (1, .int a1), (2, .int a2)]) rfl ?_
  refine zs_aload_n (pc := 0) 0 dX10_joins_0 rfl rfl ?_
  refine zs_iload_n (pc := 1) 1 dX10_joins_1 rfl rfl ?_
  refine zs_iload_n (pc := 2) 2 dX10_joins_2 rfl rfl ?_
  refine zs_callVrB (pc := 3) [.int a1, .int a2] [] (km_areTwo D h0 m M a1 a2) kv_areTwo q1924 zc_X10 zm_recv dX10_joins_3 rfl rfl (Nat.le_of_ble_eq_true rfl) (Nat.le_of_ble_eq_true rfl) (fun b1 => ?_)
  refine zs_if_t (pc := 6) (tgt := 11) dX10_joins_6 (by decide) ?_ ?_
  · refine zs_aload_n (pc := 11) 0 dX10_joins_11 rfl rfl ?_
    refine zs_callVv (pc := 12) [] [] (km_copies D h0 m M) kv_copies q1873 zc_X10 zm_recv dX10_joins_12 rfl rfl (Nat.le_of_ble_eq_true rfl) (Nat.le_of_ble_eq_true rfl) (fun M2 => ?_)
    refine zs_aload_n (pc := 15) 0 dX10_joins_15 rfl rfl ?_
    refine zs_iload_n (pc := 16) 1 dX10_joins_16 rfl rfl ?_
    refine zs_iload_n (pc := 17) 2 dX10_joins_17 rfl rfl ?_
    refine zs_callVwI (pc := 18) [.int a1, .int a2] [] (km_joinsOf D h0 m M2 a1 a2) kv_joinsOf q1936 zc_X10 zm_recv dX10_joins_18 rfl rfl (Nat.le_of_ble_eq_true rfl) (Nat.le_of_ble_eq_true rfl) (fun p3 => ?_)
    exact zs_iret (pc := 21) dX10_joins_21 rfl rfl rfl
  · refine zs_iconst (pc := 9) (v := (-1)) dX10_joins_9 rfl ?_
    exact zs_iret (pc := 10) dX10_joins_10 rfl rfl rfl
theorem kv_at : zs_mV RX10 yX10_at cX10_at 2 (some .int) 1 := ⟨q1945, q1946, q152, q1947, by decide, by decide +kernel⟩
def gm_at (M : zm_S) (a1 : Int32) : Option (Int32) :=
(zs_ald 33 (M.2.1 47) 24).bind fun x1 =>
(gm_in a1 0 (x1 - 1)).bind fun b2 =>
if b2 = true then ((zs_ald 33 (M.2.1 47) (25 + a1)).bind fun x3 =>
some x3)
else (some (-1))
set_option maxHeartbeats 4000000 in
theorem km_at (D : zs_D) (h0 : zs_AH) (m : Nat) (M : zm_S) (a1 : Int32) : zs_Con D (zm_R h0 m) zm_bd zs_eI yX10_at cX10_at 2 (some .int) 1 [.ref m, .int a1] M ((gm_at M a1).map fun x => (x, M)) := by
  unfold gm_at
  refine zs_conR (own := RX10) (nm := "at") pl_X10 rfl rfl (Nat.le_of_ble_eq_true rfl) ?_
  refine zs_lv (lv' := [(0, .ref m), (1, .int a1)]) rfl ?_
  refine zs_iload_n (pc := 0) 1 dX10_at_0 rfl rfl ?_
  refine zs_iconst (pc := 1) (v := 0) dX10_at_1 rfl ?_
  refine zs_aload_n (pc := 2) 0 dX10_at_2 rfl rfl ?_
  refine zm_geta (pc := 3) 47 29 (by decide) rfl q1580 dX10_at_3 ?_
  refine zs_bipush (pc := 6) (v := 24) dX10_at_6 (by decide) ?_
  refine zm_iald (pc := 8) 47 29 zm_p47 dX10_at_8 (fun x1 => ?_)
  refine zs_iconst (pc := 9) (v := 1) dX10_at_9 rfl ?_
  refine zs_isub (pc := 10) dX10_at_10 ?_
  refine zs_callSrB (pc := 11) [.int a1, .int 0, .int (x1 - 1)] [] (km_in D _ _ M a1 0 (x1 - 1)) kv_in q1870 dX10_at_11 rfl rfl (Nat.le_of_ble_eq_true rfl) (Nat.le_of_ble_eq_true rfl) (fun b2 => ?_)
  refine zs_if_f (pc := 14) (tgt := 29) dX10_at_14 (by decide) ?_ ?_
  · refine zs_aload_n (pc := 17) 0 dX10_at_17 rfl rfl ?_
    refine zm_geta (pc := 18) 47 29 (by decide) rfl q1580 dX10_at_18 ?_
    refine zs_bipush (pc := 21) (v := 25) dX10_at_21 (by decide) ?_
    refine zs_iload_n (pc := 23) 1 dX10_at_23 rfl rfl ?_
    refine zs_iadd (pc := 24) dX10_at_24 ?_
    refine zm_iald (pc := 25) 47 29 zm_p47 dX10_at_25 (fun x3 => ?_)
    refine zs_goto (pc := 26) (tgt := 30) dX10_at_26 (by decide) ?_
    exact zs_iret (pc := 30) dX10_at_30 rfl rfl rfl
  · refine zs_iconst (pc := 29) (v := (-1)) dX10_at_29 rfl ?_
    exact zs_iret (pc := 30) dX10_at_30 rfl rfl rfl
theorem kv_records : zs_mV RX10 yX10_records cX10_records 2 none 0 := ⟨q1954, qs101, q152, q1955, by decide, by decide +kernel⟩
def gm_records_L51 : (Int32 × zm_S) → Option ((Int32 × zm_S) ⊕ (zm_S)) := fun t51 =>
if t51.1 < 33 then ((zs_ald 33 (t51.2.2.1 47) t51.1).bind fun x2 =>
(zs_ast 1320 ((33 * (t51.2.1 53)) + t51.1) (zm_sA t51.2 54 ((33 * (t51.2.1 53)) + t51.1) x2)).bind fun M3 =>
some (Sum.inl ((t51.1 + 1), M3)))
else (some (Sum.inr t51.2))
def gm_records_L11 : (Int32 × zm_S) → Option ((Int32 × zm_S) ⊕ (zm_S)) := fun t11 =>
if t11.1 < 1287 then ((zs_ald 1320 (t11.2.2.1 54) (t11.1 + 33)).bind fun x7 =>
(zs_ast 1320 t11.1 (zm_sA t11.2 54 t11.1 x7)).bind fun M8 =>
some (Sum.inl ((t11.1 + 1), M8)))
else (some (Sum.inr t11.2))
def gm_records (M : zm_S) : Option (zm_S) :=
(if (M.1 53) = 40 then ((zs_loop 5000 gm_records_L11 (0, M)).bind fun (r9 : zm_S) =>
(some (zm_sF r9 53 ((r9.1 53) - 1))).bind fun M10 =>
some M10)
else (some M)).bind fun (p1 : zm_S) =>
(zs_loop 5000 gm_records_L51 (0, p1)).bind fun (r4 : zm_S) =>
(some (zm_sF r4 53 ((r4.1 53) + 1))).bind fun M5 =>
(gm_keepsRow M5).bind fun M6 =>
some M6
set_option maxHeartbeats 4000000 in
theorem km_records (D : zs_D) (h0 : zs_AH) (m : Nat) (M : zm_S) : zs_Con D (zm_R h0 m) zm_bd zs_eV yX10_records cX10_records 2 none 1 [.ref m] M ((gm_records M).map fun x => ((), x)) := by
  unfold gm_records
  refine zs_conV (own := RX10) (nm := "records") pl_X10 rfl rfl (Nat.le_of_ble_eq_true rfl) ?_
  refine zs_lv (lv' := [(0, .ref m)]) rfl ?_
  refine zs_aload_n (pc := 0) 0 dX10_records_0 rfl rfl ?_
  refine zm_geti (pc := 1) 53 (by decide) rfl q1586 dX10_records_1 ?_
  refine zs_bipush (pc := 4) (v := 40) dX10_records_4 (by decide) ?_
  refine zs_join (pc := 6) (fun (p1 : zm_S) => p1) 49 (fun (p1 : zm_S) => [(0, .ref m)]) (fun (p1 : zm_S) => []) (fun p1 => ?_) (fun h49 => ?_)
  · refine zs_iconst (pc := 49) (v := 0) dX10_records_49 rfl ?_
    refine zs_istore_n (pc := 50) (lv' := [(0, .ref m), (1, .int 0)]) [1, 0] dX10_records_50 rfl (by decide) rfl ?_
    refine zs_whileJ (pc := 51) (fun (t51 : Int32 × zm_S) => t51.2) (fun (t51 : Int32 × zm_S) => [(0, .ref m), (1, .int t51.1)]) 5000 (0, p1) (fun (r4 : zm_S) => r4) 83 (fun (r4 : zm_S) => [(0, .ref m)]) [] (fun r4 => ?_) (fun X51 hL51 hE51 t51 => ?_)
    · refine zs_aload_n (pc := 83) 0 dX10_records_83 rfl rfl ?_
      refine zs_dup (pc := 84) dX10_records_84 rfl ?_
      refine zm_geti (pc := 85) 53 (by decide) rfl q1586 dX10_records_85 ?_
      refine zs_iconst (pc := 88) (v := 1) dX10_records_88 rfl ?_
      refine zs_iadd (pc := 89) dX10_records_89 ?_
      refine zm_puti (pc := 90) 53 (by decide) rfl q1586 rfl rfl rfl dX10_records_90 ?_
      refine zs_nmM (fun M5 => ?_)
      refine zs_aload_n (pc := 93) 0 dX10_records_93 rfl rfl ?_
      refine zs_callVv (pc := 94) [] [] (km_keepsRow D h0 m M5) kv_keepsRow q1530 zc_X10 zm_recv dX10_records_94 rfl rfl (Nat.le_of_ble_eq_true rfl) (Nat.le_of_ble_eq_true rfl) (fun M6 => ?_)
      exact zs_vret (pc := 97) dX10_records_97 rfl rfl
    · unfold gm_records_L51
      refine zs_iload_n (pc := 51) 1 dX10_records_51 rfl rfl ?_
      refine zs_bipush (pc := 52) (v := 33) dX10_records_52 (by decide) ?_
      refine zs_icmp_ge (pc := 54) (tgt := 83) dX10_records_54 (by decide) ?_ ?_
      · refine zs_aload_n (pc := 57) 0 dX10_records_57 rfl rfl ?_
        refine zm_geta (pc := 58) 54 33 (by decide) rfl q1587 dX10_records_58 ?_
        refine zs_bipush (pc := 61) (v := 33) dX10_records_61 (by decide) ?_
        refine zs_aload_n (pc := 63) 0 dX10_records_63 rfl rfl ?_
        refine zm_geti (pc := 64) 53 (by decide) rfl q1586 dX10_records_64 ?_
        refine zs_imul (pc := 67) dX10_records_67 ?_
        refine zs_iload_n (pc := 68) 1 dX10_records_68 rfl rfl ?_
        refine zs_iadd (pc := 69) dX10_records_69 ?_
        refine zs_aload_n (pc := 70) 0 dX10_records_70 rfl rfl ?_
        refine zm_geta (pc := 71) 47 29 (by decide) rfl q1580 dX10_records_71 ?_
        refine zs_iload_n (pc := 74) 1 dX10_records_74 rfl rfl ?_
        refine zm_iald (pc := 75) 47 29 zm_p47 dX10_records_75 (fun x2 => ?_)
        refine zm_iast (pc := 76) 54 33 zm_p54 dX10_records_76 (fun M3 => ?_)
        refine zs_iinc (pc := 77) (lv' := [(0, .ref m), (1, .int (t51.1 + 1))]) 1 [1, 0] dX10_records_77 rfl rfl (by decide) rfl ?_
        refine zs_goto (pc := 80) (tgt := 51) dX10_records_80 (by decide) ?_
        exact hL51 ((t51.1 + 1), M3)
      · refine zs_sub (lv' := [(0, .ref m)]) [0] rfl ?_
        exact hE51 t51.2
  · refine zs_icmp_ne (pc := 6) (tgt := 49) dX10_records_6 (by decide) ?_ ?_
    · refine zs_iconst (pc := 9) (v := 0) dX10_records_9 rfl ?_
      refine zs_istore_n (pc := 10) (lv' := [(0, .ref m), (1, .int 0)]) [1, 0] dX10_records_10 rfl (by decide) rfl ?_
      refine zs_whileJ (pc := 11) (fun (t11 : Int32 × zm_S) => t11.2) (fun (t11 : Int32 × zm_S) => [(0, .ref m), (1, .int t11.1)]) 5000 (0, M) (fun (r9 : zm_S) => r9) 39 (fun (r9 : zm_S) => [(0, .ref m)]) [] (fun r9 => ?_) (fun X11 hL11 hE11 t11 => ?_)
      · refine zs_aload_n (pc := 39) 0 dX10_records_39 rfl rfl ?_
        refine zs_dup (pc := 40) dX10_records_40 rfl ?_
        refine zm_geti (pc := 41) 53 (by decide) rfl q1586 dX10_records_41 ?_
        refine zs_iconst (pc := 44) (v := 1) dX10_records_44 rfl ?_
        refine zs_isub (pc := 45) dX10_records_45 ?_
        refine zm_puti (pc := 46) 53 (by decide) rfl q1586 rfl rfl rfl dX10_records_46 ?_
        refine zs_nmM (fun M10 => ?_)
        exact h49 M10
      · unfold gm_records_L11
        refine zs_iload_n (pc := 11) 1 dX10_records_11 rfl rfl ?_
        refine zs_sipush (pc := 12) (v := 1287) dX10_records_12 (by decide) ?_
        refine zs_icmp_ge (pc := 15) (tgt := 39) dX10_records_15 (by decide) ?_ ?_
        · refine zs_aload_n (pc := 18) 0 dX10_records_18 rfl rfl ?_
          refine zm_geta (pc := 19) 54 33 (by decide) rfl q1587 dX10_records_19 ?_
          refine zs_iload_n (pc := 22) 1 dX10_records_22 rfl rfl ?_
          refine zs_aload_n (pc := 23) 0 dX10_records_23 rfl rfl ?_
          refine zm_geta (pc := 24) 54 33 (by decide) rfl q1587 dX10_records_24 ?_
          refine zs_iload_n (pc := 27) 1 dX10_records_27 rfl rfl ?_
          refine zs_bipush (pc := 28) (v := 33) dX10_records_28 (by decide) ?_
          refine zs_iadd (pc := 30) dX10_records_30 ?_
          refine zm_iald (pc := 31) 54 33 zm_p54 dX10_records_31 (fun x7 => ?_)
          refine zm_iast (pc := 32) 54 33 zm_p54 dX10_records_32 (fun M8 => ?_)
          refine zs_iinc (pc := 33) (lv' := [(0, .ref m), (1, .int (t11.1 + 1))]) 1 [1, 0] dX10_records_33 rfl rfl (by decide) rfl ?_
          refine zs_goto (pc := 36) (tgt := 11) dX10_records_36 (by decide) ?_
          exact hL11 ((t11.1 + 1), M8)
        · refine zs_sub (lv' := [(0, .ref m)]) [0] rfl ?_
          exact hE11 t11.2
    · exact h49 M
theorem kv_ropeLong : zs_mV RX10 yX10_ropeLong cX10_ropeLong 1 (some .int) 0 := ⟨q1958, qs102, q152, q1959, by decide, by decide +kernel⟩
def gm_ropeLong (M : zm_S) : Option (Int32) :=
(zs_ald 33 (M.2.1 48) 6).bind fun x1 =>
(zs_ald 33 (M.2.1 48) 7).bind fun x2 =>
(zs_ald 33 (M.2.1 48) 8).bind fun x3 =>
(zs_ald 33 (M.2.1 48) 9).bind fun x4 =>
(zs_ald 33 (M.2.1 48) 10).bind fun x5 =>
(zs_ald 33 (M.2.1 48) 11).bind fun x6 =>
(some (((((x1 + x2) + x3) + x4) + x5) + x6)).bind fun x7 =>
some x7
set_option maxHeartbeats 4000000 in
theorem km_ropeLong (D : zs_D) (h0 : zs_AH) (m : Nat) (M : zm_S) : zs_Con D (zm_R h0 m) zm_bd zs_eI yX10_ropeLong cX10_ropeLong 1 (some .int) 0 [.ref m] M ((gm_ropeLong M).map fun x => (x, M)) := by
  unfold gm_ropeLong
  refine zs_conR (own := RX10) (nm := "ropeLong") pl_X10 rfl rfl (Nat.le_of_ble_eq_true rfl) ?_
  refine zs_lv (lv' := [(0, .ref m)]) rfl ?_
  refine zs_aload_n (pc := 0) 0 dX10_ropeLong_0 rfl rfl ?_
  refine zm_geta (pc := 1) 48 30 (by decide) rfl q1581 dX10_ropeLong_1 ?_
  refine zs_bipush (pc := 4) (v := 6) dX10_ropeLong_4 (by decide) ?_
  refine zm_iald (pc := 6) 48 30 zm_p48 dX10_ropeLong_6 (fun x1 => ?_)
  refine zs_aload_n (pc := 7) 0 dX10_ropeLong_7 rfl rfl ?_
  refine zm_geta (pc := 8) 48 30 (by decide) rfl q1581 dX10_ropeLong_8 ?_
  refine zs_bipush (pc := 11) (v := 7) dX10_ropeLong_11 (by decide) ?_
  refine zm_iald (pc := 13) 48 30 zm_p48 dX10_ropeLong_13 (fun x2 => ?_)
  refine zs_iadd (pc := 14) dX10_ropeLong_14 ?_
  refine zs_aload_n (pc := 15) 0 dX10_ropeLong_15 rfl rfl ?_
  refine zm_geta (pc := 16) 48 30 (by decide) rfl q1581 dX10_ropeLong_16 ?_
  refine zs_bipush (pc := 19) (v := 8) dX10_ropeLong_19 (by decide) ?_
  refine zm_iald (pc := 21) 48 30 zm_p48 dX10_ropeLong_21 (fun x3 => ?_)
  refine zs_iadd (pc := 22) dX10_ropeLong_22 ?_
  refine zs_aload_n (pc := 23) 0 dX10_ropeLong_23 rfl rfl ?_
  refine zm_geta (pc := 24) 48 30 (by decide) rfl q1581 dX10_ropeLong_24 ?_
  refine zs_bipush (pc := 27) (v := 9) dX10_ropeLong_27 (by decide) ?_
  refine zm_iald (pc := 29) 48 30 zm_p48 dX10_ropeLong_29 (fun x4 => ?_)
  refine zs_iadd (pc := 30) dX10_ropeLong_30 ?_
  refine zs_aload_n (pc := 31) 0 dX10_ropeLong_31 rfl rfl ?_
  refine zm_geta (pc := 32) 48 30 (by decide) rfl q1581 dX10_ropeLong_32 ?_
  refine zs_bipush (pc := 35) (v := 10) dX10_ropeLong_35 (by decide) ?_
  refine zm_iald (pc := 37) 48 30 zm_p48 dX10_ropeLong_37 (fun x5 => ?_)
  refine zs_iadd (pc := 38) dX10_ropeLong_38 ?_
  refine zs_aload_n (pc := 39) 0 dX10_ropeLong_39 rfl rfl ?_
  refine zm_geta (pc := 40) 48 30 (by decide) rfl q1581 dX10_ropeLong_40 ?_
  refine zs_bipush (pc := 43) (v := 11) dX10_ropeLong_43 (by decide) ?_
  refine zm_iald (pc := 45) 48 30 zm_p48 dX10_ropeLong_45 (fun x6 => ?_)
  refine zs_iadd (pc := 46) dX10_ropeLong_46 ?_
  refine zs_nm (fun x7 => ?_)
  exact zs_iret (pc := 47) dX10_ropeLong_47 rfl rfl rfl
theorem kv_splice : zs_mV RX10 yX10_splice cX10_splice 2 (some .int) 1 := ⟨q1949, q1950, q152, q1951, by decide, by decide +kernel⟩
def gm_splice (M : zm_S) (a1 : Int32) : Option (Int32 × zm_S) :=
(gm_copies M).bind fun M1 =>
(gm_isHouse M1 a1).bind fun b2 =>
if b2 = true then ((gm_hasPlait M1 a1).bind fun b3 =>
if b3 = true then (some ((-1), M1))
else ((zs_ald 33 (M1.2.1 48) a1).bind fun x4 =>
if x4 = 0 then (some ((-1), M1))
else ((zs_ald 33 (M1.2.1 48) a1).bind fun x5 =>
(zs_ast 33 (6 + a1) (zm_sA M1 48 (6 + a1) x5)).bind fun M6 =>
(gm_strongFirst M6 a1).bind fun x7 =>
(zs_ast 33 (12 + a1) (zm_sA M6 48 (12 + a1) x7)).bind fun M8 =>
(zs_ald 33 (M8.2.1 48) (18 + a1)).bind fun x9 =>
(zs_ast 33 (18 + a1) (zm_sA M8 48 (18 + a1) (x9 + 1))).bind fun M10 =>
(zs_ast 33 a1 (zm_sA M10 48 a1 0)).bind fun M11 =>
(zs_ald 33 (M11.2.1 48) 24).bind fun x12 =>
(zs_ast 33 (25 + x12) (zm_sA M11 48 (25 + x12) a1)).bind fun M13 =>
(zs_ald 33 (M13.2.1 48) 24).bind fun x14 =>
(zs_ast 33 24 (zm_sA M13 48 24 (x14 + 1))).bind fun M15 =>
(gm_records M15).bind fun M16 =>
(gm_ropeLong M16).bind fun x17 =>
some (x17, M16))))
else (some ((-1), M1))
set_option maxHeartbeats 4000000 in
theorem km_splice (D : zs_D) (h0 : zs_AH) (m : Nat) (M : zm_S) (a1 : Int32) : zs_Con D (zm_R h0 m) zm_bd zs_eI yX10_splice cX10_splice 2 (some .int) 2 [.ref m, .int a1] M (gm_splice M a1) := by
  unfold gm_splice
  refine zs_con (own := RX10) (nm := "splice") pl_X10 rfl rfl (Nat.le_of_ble_eq_true rfl) ?_
  refine zs_lv (lv' := [(0, .ref m), (1, .int a1)]) rfl ?_
  refine zs_aload_n (pc := 0) 0 dX10_splice_0 rfl rfl ?_
  refine zs_callVv (pc := 1) [] [] (km_copies D h0 m M) kv_copies q1873 zc_X10 zm_recv dX10_splice_1 rfl rfl (Nat.le_of_ble_eq_true rfl) (Nat.le_of_ble_eq_true rfl) (fun M1 => ?_)
  refine zs_aload_n (pc := 4) 0 dX10_splice_4 rfl rfl ?_
  refine zs_iload_n (pc := 5) 1 dX10_splice_5 rfl rfl ?_
  refine zs_callVrB (pc := 6) [.int a1] [] (km_isHouse D h0 m M1 a1) kv_isHouse q1866 zc_X10 zm_recv dX10_splice_6 rfl rfl (Nat.le_of_ble_eq_true rfl) (Nat.le_of_ble_eq_true rfl) (fun b2 => ?_)
  refine zs_if_f (pc := 9) (tgt := 29) dX10_splice_9 (by decide) ?_ ?_
  · refine zs_aload_n (pc := 12) 0 dX10_splice_12 rfl rfl ?_
    refine zs_iload_n (pc := 13) 1 dX10_splice_13 rfl rfl ?_
    refine zs_callVrB (pc := 14) [.int a1] [] (km_hasPlait D h0 m M1 a1) kv_hasPlait q1881 zc_X10 zm_recv dX10_splice_14 rfl rfl (Nat.le_of_ble_eq_true rfl) (Nat.le_of_ble_eq_true rfl) (fun b3 => ?_)
    refine zs_if_t (pc := 17) (tgt := 29) dX10_splice_17 (by decide) ?_ ?_
    · refine zs_iconst (pc := 29) (v := (-1)) dX10_splice_29 rfl ?_
      exact zs_iret (pc := 30) dX10_splice_30 rfl rfl rfl
    · refine zs_aload_n (pc := 20) 0 dX10_splice_20 rfl rfl ?_
      refine zm_geta (pc := 21) 48 30 (by decide) rfl q1581 dX10_splice_21 ?_
      refine zs_iload_n (pc := 24) 1 dX10_splice_24 rfl rfl ?_
      refine zm_iald (pc := 25) 48 30 zm_p48 dX10_splice_25 (fun x4 => ?_)
      refine zs_if_ne (pc := 26) (tgt := 31) dX10_splice_26 (by decide) ?_ ?_
      · refine zs_iconst (pc := 29) (v := (-1)) dX10_splice_29 rfl ?_
        exact zs_iret (pc := 30) dX10_splice_30 rfl rfl rfl
      · refine zs_aload_n (pc := 31) 0 dX10_splice_31 rfl rfl ?_
        refine zm_geta (pc := 32) 48 30 (by decide) rfl q1581 dX10_splice_32 ?_
        refine zs_bipush (pc := 35) (v := 6) dX10_splice_35 (by decide) ?_
        refine zs_iload_n (pc := 37) 1 dX10_splice_37 rfl rfl ?_
        refine zs_iadd (pc := 38) dX10_splice_38 ?_
        refine zs_aload_n (pc := 39) 0 dX10_splice_39 rfl rfl ?_
        refine zm_geta (pc := 40) 48 30 (by decide) rfl q1581 dX10_splice_40 ?_
        refine zs_iload_n (pc := 43) 1 dX10_splice_43 rfl rfl ?_
        refine zm_iald (pc := 44) 48 30 zm_p48 dX10_splice_44 (fun x5 => ?_)
        refine zm_iast (pc := 45) 48 30 zm_p48 dX10_splice_45 (fun M6 => ?_)
        refine zs_aload_n (pc := 46) 0 dX10_splice_46 rfl rfl ?_
        refine zm_geta (pc := 47) 48 30 (by decide) rfl q1581 dX10_splice_47 ?_
        refine zs_bipush (pc := 50) (v := 12) dX10_splice_50 (by decide) ?_
        refine zs_iload_n (pc := 52) 1 dX10_splice_52 rfl rfl ?_
        refine zs_iadd (pc := 53) dX10_splice_53 ?_
        refine zs_aload_n (pc := 54) 0 dX10_splice_54 rfl rfl ?_
        refine zs_iload_n (pc := 55) 1 dX10_splice_55 rfl rfl ?_
        refine zs_callVrI (pc := 56) [.int a1] [.int (12 + a1), .ref (m + (30 + 1))] (km_strongFirst D h0 m M6 a1) kv_strongFirst q1877 zc_X10 zm_recv dX10_splice_56 rfl rfl (Nat.le_of_ble_eq_true rfl) (Nat.le_of_ble_eq_true rfl) (fun x7 => ?_)
        refine zm_iast (pc := 59) 48 30 zm_p48 dX10_splice_59 (fun M8 => ?_)
        refine zs_aload_n (pc := 60) 0 dX10_splice_60 rfl rfl ?_
        refine zm_geta (pc := 61) 48 30 (by decide) rfl q1581 dX10_splice_61 ?_
        refine zs_bipush (pc := 64) (v := 18) dX10_splice_64 (by decide) ?_
        refine zs_iload_n (pc := 66) 1 dX10_splice_66 rfl rfl ?_
        refine zs_iadd (pc := 67) dX10_splice_67 ?_
        refine zs_dup2 (pc := 68) dX10_splice_68 rfl rfl ?_
        refine zm_iald (pc := 69) 48 30 zm_p48 dX10_splice_69 (fun x9 => ?_)
        refine zs_iconst (pc := 70) (v := 1) dX10_splice_70 rfl ?_
        refine zs_iadd (pc := 71) dX10_splice_71 ?_
        refine zm_iast (pc := 72) 48 30 zm_p48 dX10_splice_72 (fun M10 => ?_)
        refine zs_aload_n (pc := 73) 0 dX10_splice_73 rfl rfl ?_
        refine zm_geta (pc := 74) 48 30 (by decide) rfl q1581 dX10_splice_74 ?_
        refine zs_iload_n (pc := 77) 1 dX10_splice_77 rfl rfl ?_
        refine zs_iconst (pc := 78) (v := 0) dX10_splice_78 rfl ?_
        refine zm_iast (pc := 79) 48 30 zm_p48 dX10_splice_79 (fun M11 => ?_)
        refine zs_aload_n (pc := 80) 0 dX10_splice_80 rfl rfl ?_
        refine zm_geta (pc := 81) 48 30 (by decide) rfl q1581 dX10_splice_81 ?_
        refine zs_bipush (pc := 84) (v := 25) dX10_splice_84 (by decide) ?_
        refine zs_aload_n (pc := 86) 0 dX10_splice_86 rfl rfl ?_
        refine zm_geta (pc := 87) 48 30 (by decide) rfl q1581 dX10_splice_87 ?_
        refine zs_bipush (pc := 90) (v := 24) dX10_splice_90 (by decide) ?_
        refine zm_iald (pc := 92) 48 30 zm_p48 dX10_splice_92 (fun x12 => ?_)
        refine zs_iadd (pc := 93) dX10_splice_93 ?_
        refine zs_iload_n (pc := 94) 1 dX10_splice_94 rfl rfl ?_
        refine zm_iast (pc := 95) 48 30 zm_p48 dX10_splice_95 (fun M13 => ?_)
        refine zs_aload_n (pc := 96) 0 dX10_splice_96 rfl rfl ?_
        refine zm_geta (pc := 97) 48 30 (by decide) rfl q1581 dX10_splice_97 ?_
        refine zs_bipush (pc := 100) (v := 24) dX10_splice_100 (by decide) ?_
        refine zs_dup2 (pc := 102) dX10_splice_102 rfl rfl ?_
        refine zm_iald (pc := 103) 48 30 zm_p48 dX10_splice_103 (fun x14 => ?_)
        refine zs_iconst (pc := 104) (v := 1) dX10_splice_104 rfl ?_
        refine zs_iadd (pc := 105) dX10_splice_105 ?_
        refine zm_iast (pc := 106) 48 30 zm_p48 dX10_splice_106 (fun M15 => ?_)
        refine zs_aload_n (pc := 107) 0 dX10_splice_107 rfl rfl ?_
        refine zs_callVv (pc := 108) [] [] (km_records D h0 m M15) kv_records q1952 zc_X10 zm_recv dX10_splice_108 rfl rfl (Nat.le_of_ble_eq_true rfl) (Nat.le_of_ble_eq_true rfl) (fun M16 => ?_)
        refine zs_aload_n (pc := 111) 0 dX10_splice_111 rfl rfl ?_
        refine zs_callVrI (pc := 112) [] [] (km_ropeLong D h0 m M16) kv_ropeLong q1956 zc_X10 zm_recv dX10_splice_112 rfl rfl (Nat.le_of_ble_eq_true rfl) (Nat.le_of_ble_eq_true rfl) (fun x17 => ?_)
        exact zs_iret (pc := 115) dX10_splice_115 rfl rfl rfl
  · refine zs_iconst (pc := 29) (v := (-1)) dX10_splice_29 rfl ?_
    exact zs_iret (pc := 30) dX10_splice_30 rfl rfl rfl
theorem kv_loses : zs_mV RX10 yX10_loses cX10_loses 3 none 1 := ⟨q1966, qs103, q152, q1967, by decide, by decide +kernel⟩
def gm_loses_L0 (a1 : Int32) : (zm_S) → Option ((zm_S) ⊕ (zm_S)) := fun t0 =>
(zs_ald 33 (t0.2.1 48) 24).bind fun x1 =>
if a1 < x1 then ((zs_ald 33 (t0.2.1 48) 24).bind fun x2 =>
(zs_ast 33 24 (zm_sA t0 48 24 (x2 - 1))).bind fun M3 =>
(zs_ald 33 (M3.2.1 48) 24).bind fun x4 =>
(zs_ald 33 (M3.2.1 48) (25 + x4)).bind fun x5 =>
(zs_ald 33 (M3.2.1 48) 24).bind fun x6 =>
(zs_ast 33 (25 + x6) (zm_sA M3 48 (25 + x6) 0)).bind fun M7 =>
(zs_ast 33 (6 + x5) (zm_sA M7 48 (6 + x5) 0)).bind fun M8 =>
(zs_ast 33 (12 + x5) (zm_sA M8 48 (12 + x5) 0)).bind fun M9 =>
some (Sum.inl M9))
else (some (Sum.inr t0))
def gm_loses (M : zm_S) (a1 : Int32) : Option (zm_S) :=
(zs_loop 5000 (gm_loses_L0 a1) M).bind fun z => some z
set_option maxHeartbeats 4000000 in
theorem km_loses (D : zs_D) (h0 : zs_AH) (m : Nat) (M : zm_S) (a1 : Int32) : zs_Con D (zm_R h0 m) zm_bd zs_eV yX10_loses cX10_loses 3 none 0 [.ref m, .int a1] M ((gm_loses M a1).map fun x => ((), x)) := by
  unfold gm_loses
  refine zs_conV (own := RX10) (nm := "loses") pl_X10 rfl rfl (Nat.le_of_ble_eq_true rfl) ?_
  refine zs_lv (lv' := [(0, .ref m), (1, .int a1)]) rfl ?_
  refine zs_whileX (pc := 0) (fun (t0 : zm_S) => t0) (fun (t0 : zm_S) => [(0, .ref m), (1, .int a1)]) 5000 M (fun X0 hL0 hR0 t0 => ?_)
  unfold gm_loses_L0
  refine zs_aload_n (pc := 0) 0 dX10_loses_0 rfl rfl ?_
  refine zm_geta (pc := 1) 48 30 (by decide) rfl q1581 dX10_loses_1 ?_
  refine zs_bipush (pc := 4) (v := 24) dX10_loses_4 (by decide) ?_
  refine zm_iald (pc := 6) 48 30 zm_p48 dX10_loses_6 (fun x1 => ?_)
  refine zs_iload_n (pc := 7) 1 dX10_loses_7 rfl rfl ?_
  refine zs_icmp_le (pc := 8) (tgt := 77) dX10_loses_8 (by decide) ?_ ?_
  · refine zs_aload_n (pc := 11) 0 dX10_loses_11 rfl rfl ?_
    refine zm_geta (pc := 12) 48 30 (by decide) rfl q1581 dX10_loses_12 ?_
    refine zs_bipush (pc := 15) (v := 24) dX10_loses_15 (by decide) ?_
    refine zs_dup2 (pc := 17) dX10_loses_17 rfl rfl ?_
    refine zm_iald (pc := 18) 48 30 zm_p48 dX10_loses_18 (fun x2 => ?_)
    refine zs_iconst (pc := 19) (v := 1) dX10_loses_19 rfl ?_
    refine zs_isub (pc := 20) dX10_loses_20 ?_
    refine zm_iast (pc := 21) 48 30 zm_p48 dX10_loses_21 (fun M3 => ?_)
    refine zs_aload_n (pc := 22) 0 dX10_loses_22 rfl rfl ?_
    refine zm_geta (pc := 23) 48 30 (by decide) rfl q1581 dX10_loses_23 ?_
    refine zs_bipush (pc := 26) (v := 25) dX10_loses_26 (by decide) ?_
    refine zs_aload_n (pc := 28) 0 dX10_loses_28 rfl rfl ?_
    refine zm_geta (pc := 29) 48 30 (by decide) rfl q1581 dX10_loses_29 ?_
    refine zs_bipush (pc := 32) (v := 24) dX10_loses_32 (by decide) ?_
    refine zm_iald (pc := 34) 48 30 zm_p48 dX10_loses_34 (fun x4 => ?_)
    refine zs_iadd (pc := 35) dX10_loses_35 ?_
    refine zm_iald (pc := 36) 48 30 zm_p48 dX10_loses_36 (fun x5 => ?_)
    refine zs_istore_n (pc := 37) (lv' := [(0, .ref m), (1, .int a1), (2, .int x5)]) [1, 2, 0] dX10_loses_37 rfl (by decide) rfl ?_
    refine zs_aload_n (pc := 38) 0 dX10_loses_38 rfl rfl ?_
    refine zm_geta (pc := 39) 48 30 (by decide) rfl q1581 dX10_loses_39 ?_
    refine zs_bipush (pc := 42) (v := 25) dX10_loses_42 (by decide) ?_
    refine zs_aload_n (pc := 44) 0 dX10_loses_44 rfl rfl ?_
    refine zm_geta (pc := 45) 48 30 (by decide) rfl q1581 dX10_loses_45 ?_
    refine zs_bipush (pc := 48) (v := 24) dX10_loses_48 (by decide) ?_
    refine zm_iald (pc := 50) 48 30 zm_p48 dX10_loses_50 (fun x6 => ?_)
    refine zs_iadd (pc := 51) dX10_loses_51 ?_
    refine zs_iconst (pc := 52) (v := 0) dX10_loses_52 rfl ?_
    refine zm_iast (pc := 53) 48 30 zm_p48 dX10_loses_53 (fun M7 => ?_)
    refine zs_aload_n (pc := 54) 0 dX10_loses_54 rfl rfl ?_
    refine zm_geta (pc := 55) 48 30 (by decide) rfl q1581 dX10_loses_55 ?_
    refine zs_bipush (pc := 58) (v := 6) dX10_loses_58 (by decide) ?_
    refine zs_iload_n (pc := 60) 2 dX10_loses_60 rfl rfl ?_
    refine zs_iadd (pc := 61) dX10_loses_61 ?_
    refine zs_iconst (pc := 62) (v := 0) dX10_loses_62 rfl ?_
    refine zm_iast (pc := 63) 48 30 zm_p48 dX10_loses_63 (fun M8 => ?_)
    refine zs_aload_n (pc := 64) 0 dX10_loses_64 rfl rfl ?_
    refine zm_geta (pc := 65) 48 30 (by decide) rfl q1581 dX10_loses_65 ?_
    refine zs_bipush (pc := 68) (v := 12) dX10_loses_68 (by decide) ?_
    refine zs_iload_n (pc := 70) 2 dX10_loses_70 rfl rfl ?_
    refine zs_iadd (pc := 71) dX10_loses_71 ?_
    refine zs_iconst (pc := 72) (v := 0) dX10_loses_72 rfl ?_
    refine zm_iast (pc := 73) 48 30 zm_p48 dX10_loses_73 (fun M9 => ?_)
    refine zs_goto (pc := 74) (tgt := 0) dX10_loses_74 (by decide) ?_
    refine zs_sub (lv' := [(0, .ref m), (1, .int a1)]) [0, 1] rfl ?_
    exact hL0 M9
  · exact zs_vret (pc := 77) dX10_loses_77 ((hR0 _).trans rfl) rfl
theorem kv_unsplice : zs_mV RX10 yX10_unsplice cX10_unsplice 2 (some .int) 0 := ⟨q1961, q1962, q152, q1963, by decide, by decide +kernel⟩
def gm_unsplice (M : zm_S) : Option (Int32 × zm_S) :=
(gm_copies M).bind fun M1 =>
(zs_ald 33 (M1.2.1 48) 24).bind fun x2 =>
if x2 = 0 then (some ((-1), M1))
else ((zs_ald 33 (M1.2.1 48) 24).bind fun x3 =>
(zs_ald 33 (M1.2.1 48) (24 + x3)).bind fun x4 =>
(zs_ald 33 (M1.2.1 48) 24).bind fun x5 =>
(gm_loses M1 (x5 - 1)).bind fun M6 =>
(gm_records M6).bind fun M7 =>
some (x4, M7))
set_option maxHeartbeats 4000000 in
theorem km_unsplice (D : zs_D) (h0 : zs_AH) (m : Nat) (M : zm_S) : zs_Con D (zm_R h0 m) zm_bd zs_eI yX10_unsplice cX10_unsplice 2 (some .int) 2 [.ref m] M (gm_unsplice M) := by
  unfold gm_unsplice
  refine zs_con (own := RX10) (nm := "unsplice") pl_X10 rfl rfl (Nat.le_of_ble_eq_true rfl) ?_
  refine zs_lv (lv' := [(0, .ref m)]) rfl ?_
  refine zs_aload_n (pc := 0) 0 dX10_unsplice_0 rfl rfl ?_
  refine zs_callVv (pc := 1) [] [] (km_copies D h0 m M) kv_copies q1873 zc_X10 zm_recv dX10_unsplice_1 rfl rfl (Nat.le_of_ble_eq_true rfl) (Nat.le_of_ble_eq_true rfl) (fun M1 => ?_)
  refine zs_aload_n (pc := 4) 0 dX10_unsplice_4 rfl rfl ?_
  refine zm_geta (pc := 5) 48 30 (by decide) rfl q1581 dX10_unsplice_5 ?_
  refine zs_bipush (pc := 8) (v := 24) dX10_unsplice_8 (by decide) ?_
  refine zm_iald (pc := 10) 48 30 zm_p48 dX10_unsplice_10 (fun x2 => ?_)
  refine zs_if_ne (pc := 11) (tgt := 16) dX10_unsplice_11 (by decide) ?_ ?_
  · refine zs_iconst (pc := 14) (v := (-1)) dX10_unsplice_14 rfl ?_
    exact zs_iret (pc := 15) dX10_unsplice_15 rfl rfl rfl
  · refine zs_aload_n (pc := 16) 0 dX10_unsplice_16 rfl rfl ?_
    refine zm_geta (pc := 17) 48 30 (by decide) rfl q1581 dX10_unsplice_17 ?_
    refine zs_bipush (pc := 20) (v := 24) dX10_unsplice_20 (by decide) ?_
    refine zs_aload_n (pc := 22) 0 dX10_unsplice_22 rfl rfl ?_
    refine zm_geta (pc := 23) 48 30 (by decide) rfl q1581 dX10_unsplice_23 ?_
    refine zs_bipush (pc := 26) (v := 24) dX10_unsplice_26 (by decide) ?_
    refine zm_iald (pc := 28) 48 30 zm_p48 dX10_unsplice_28 (fun x3 => ?_)
    refine zs_iadd (pc := 29) dX10_unsplice_29 ?_
    refine zm_iald (pc := 30) 48 30 zm_p48 dX10_unsplice_30 (fun x4 => ?_)
    refine zs_istore_n (pc := 31) (lv' := [(0, .ref m), (1, .int x4)]) [1, 0] dX10_unsplice_31 rfl (by decide) rfl ?_
    refine zs_aload_n (pc := 32) 0 dX10_unsplice_32 rfl rfl ?_
    refine zs_aload_n (pc := 33) 0 dX10_unsplice_33 rfl rfl ?_
    refine zm_geta (pc := 34) 48 30 (by decide) rfl q1581 dX10_unsplice_34 ?_
    refine zs_bipush (pc := 37) (v := 24) dX10_unsplice_37 (by decide) ?_
    refine zm_iald (pc := 39) 48 30 zm_p48 dX10_unsplice_39 (fun x5 => ?_)
    refine zs_iconst (pc := 40) (v := 1) dX10_unsplice_40 rfl ?_
    refine zs_isub (pc := 41) dX10_unsplice_41 ?_
    refine zs_callVv (pc := 42) [.int (x5 - 1)] [] (km_loses D h0 m M1 (x5 - 1)) kv_loses q1964 zc_X10 zm_recv dX10_unsplice_42 rfl rfl (Nat.le_of_ble_eq_true rfl) (Nat.le_of_ble_eq_true rfl) (fun M6 => ?_)
    refine zs_aload_n (pc := 45) 0 dX10_unsplice_45 rfl rfl ?_
    refine zs_callVv (pc := 46) [] [] (km_records D h0 m M6) kv_records q1952 zc_X10 zm_recv dX10_unsplice_46 rfl rfl (Nat.le_of_ble_eq_true rfl) (Nat.le_of_ble_eq_true rfl) (fun M7 => ?_)
    refine zs_iload_n (pc := 49) 1 dX10_unsplice_49 rfl rfl ?_
    exact zs_iret (pc := 50) dX10_unsplice_50 rfl rfl rfl
theorem kv_isWeight : zs_mS yX10_isWeight cX10_isWeight 1 (some .boolean) 1 := ⟨q1973, q152, q1974, by decide, by decide +kernel⟩
def gm_isWeight (a0 : Int32) : Option (Bool) :=
(gm_in a0 0 999).bind fun b1 =>
some b1
set_option maxHeartbeats 4000000 in
theorem km_isWeight {σ : Type} (D : zs_D) (Rl : σ → zs_AH → Prop) (bd : σ → Nat × Nat) (M : σ) (a0 : Int32) : zs_Con D Rl bd zs_eB yX10_isWeight cX10_isWeight 1 (some .boolean) 1 [.int a0] M ((gm_isWeight a0).map fun x => (x, M)) := by
  unfold gm_isWeight
  refine zs_conR (own := RX10) (nm := "isWeight") pl_X10 rfl rfl (Nat.le_of_ble_eq_true rfl) ?_
  refine zs_lv (lv' := [(0, .int a0)]) rfl ?_
  refine zs_iload_n (pc := 0) 0 dX10_isWeight_0 rfl rfl ?_
  refine zs_iconst (pc := 1) (v := 0) dX10_isWeight_1 rfl ?_
  refine zs_sipush (pc := 2) (v := 999) dX10_isWeight_2 (by decide) ?_
  refine zs_callSrB (pc := 5) [.int a0, .int 0, .int 999] [] (km_in D _ _ M a0 0 999) kv_in q1870 dX10_isWeight_5 rfl rfl (Nat.le_of_ble_eq_true rfl) (Nat.le_of_ble_eq_true rfl) (fun b1 => ?_)
  exact zs_iret (pc := 8) dX10_isWeight_8 rfl rfl (zs_nb _)
theorem kv_belowOf : zs_mV RX10 yX10_belowOf cX10_belowOf 4 (some .int) 1 := ⟨q1985, qs106, q152, q1986, by decide, by decide +kernel⟩
def gm_belowOf_L6 (M : zm_S) : (Int32 × Int32) → Option ((Int32 × Int32) ⊕ (Int32)) := fun t6 =>
(zs_ald 33 (M.2.1 48) 24).bind fun x2 =>
if t6.2 < x2 then ((zs_ald 33 (M.2.1 48) (25 + t6.2)).bind fun x3 =>
(zs_ald 33 (M.2.1 48) (6 + x3)).bind fun x4 =>
(some (t6.1 + x4)).bind fun x5 =>
some (Sum.inl (x5, (t6.2 + 1))))
else (some (Sum.inr t6.1))
def gm_belowOf (M : zm_S) (a1 : Int32) : Option (Int32) :=
(some (a1 + 1)).bind fun x1 =>
(zs_loop 5000 (gm_belowOf_L6 M) (0, x1)).bind fun z => some z
set_option maxHeartbeats 4000000 in
theorem km_belowOf (D : zs_D) (h0 : zs_AH) (m : Nat) (M : zm_S) (a1 : Int32) : zs_Con D (zm_R h0 m) zm_bd zs_eI yX10_belowOf cX10_belowOf 4 (some .int) 0 [.ref m, .int a1] M ((gm_belowOf M a1).map fun x => (x, M)) := by
  unfold gm_belowOf
  refine zs_conR (own := RX10) (nm := "belowOf") pl_X10 rfl rfl (Nat.le_of_ble_eq_true rfl) ?_
  refine zs_lv (lv' := [(0, .ref m), (1, .int a1)]) rfl ?_
  refine zs_iconst (pc := 0) (v := 0) dX10_belowOf_0 rfl ?_
  refine zs_istore_n (pc := 1) (lv' := [(0, .ref m), (1, .int a1), (2, .int 0)]) [1, 2, 0] dX10_belowOf_1 rfl (by decide) rfl ?_
  refine zs_iload_n (pc := 2) 1 dX10_belowOf_2 rfl rfl ?_
  refine zs_iconst (pc := 3) (v := 1) dX10_belowOf_3 rfl ?_
  refine zs_iadd (pc := 4) dX10_belowOf_4 ?_
  refine zs_nm (fun x1 => ?_)
  refine zs_istore_n (pc := 5) (lv' := [(0, .ref m), (1, .int a1), (2, .int 0), (3, .int x1)]) [1, 2, 3, 0] dX10_belowOf_5 rfl (by decide) rfl ?_
  refine zs_sub (pc := 6) (lv' := [(0, .ref m), (2, .int 0), (3, .int x1)]) [0, 2, 3] rfl ?_
  refine zs_whileX (pc := 6) (fun (t6 : Int32 × Int32) => M) (fun (t6 : Int32 × Int32) => [(0, .ref m), (2, .int t6.1), (3, .int t6.2)]) 5000 (0, x1) (fun X6 hL6 hR6 t6 => ?_)
  unfold gm_belowOf_L6
  refine zs_iload_n (pc := 6) 2 dX10_belowOf_6 rfl rfl ?_
  refine zs_aload_n (pc := 7) 0 dX10_belowOf_7 rfl rfl ?_
  refine zm_geta (pc := 8) 48 30 (by decide) rfl q1581 dX10_belowOf_8 ?_
  refine zs_bipush (pc := 11) (v := 24) dX10_belowOf_11 (by decide) ?_
  refine zm_iald (pc := 13) 48 30 zm_p48 dX10_belowOf_13 (fun x2 => ?_)
  refine zs_icmp_ge (pc := 14) (tgt := 43) dX10_belowOf_14 (by decide) ?_ ?_
  · refine zs_iload_n (pc := 17) 1 dX10_belowOf_17 rfl rfl ?_
    refine zs_aload_n (pc := 18) 0 dX10_belowOf_18 rfl rfl ?_
    refine zm_geta (pc := 19) 48 30 (by decide) rfl q1581 dX10_belowOf_19 ?_
    refine zs_bipush (pc := 22) (v := 6) dX10_belowOf_22 (by decide) ?_
    refine zs_aload_n (pc := 24) 0 dX10_belowOf_24 rfl rfl ?_
    refine zm_geta (pc := 25) 48 30 (by decide) rfl q1581 dX10_belowOf_25 ?_
    refine zs_bipush (pc := 28) (v := 25) dX10_belowOf_28 (by decide) ?_
    refine zs_iload_n (pc := 30) 2 dX10_belowOf_30 rfl rfl ?_
    refine zs_iadd (pc := 31) dX10_belowOf_31 ?_
    refine zm_iald (pc := 32) 48 30 zm_p48 dX10_belowOf_32 (fun x3 => ?_)
    refine zs_iadd (pc := 33) dX10_belowOf_33 ?_
    refine zm_iald (pc := 34) 48 30 zm_p48 dX10_belowOf_34 (fun x4 => ?_)
    refine zs_iadd (pc := 35) dX10_belowOf_35 ?_
    refine zs_nm (fun x5 => ?_)
    refine zs_istore_n (pc := 36) (lv' := [(0, .ref m), (2, .int x5), (3, .int t6.2)]) [1, 0, 2] dX10_belowOf_36 rfl (by decide) rfl ?_
    refine zs_iinc (pc := 37) (lv' := [(0, .ref m), (2, .int x5), (3, .int (t6.2 + 1))]) 2 [1, 2, 0] dX10_belowOf_37 rfl rfl (by decide) rfl ?_
    refine zs_goto (pc := 40) (tgt := 6) dX10_belowOf_40 (by decide) ?_
    exact hL6 (x5, (t6.2 + 1))
  · refine zs_iload_n (pc := 43) 1 dX10_belowOf_43 rfl rfl ?_
    exact zs_iret (pc := 44) dX10_belowOf_44 ((hR6 _).trans rfl) rfl rfl
theorem kv_spareAt : zs_mV RX10 yX10_spareAt cX10_spareAt 4 (some .int) 1 := ⟨q1981, qs105, q152, q1982, by decide, by decide +kernel⟩
def gm_spareAt (M : zm_S) (a1 : Int32) : Option (Int32 × zm_S) :=
(some (a1 / 2)).bind fun x1 =>
(zs_ald 33 (M.2.1 48) (25 + x1)).bind fun x2 =>
if (zs_rem a1 2) = 1 then ((zs_ald 33 (M.2.1 48) (12 + x2)).bind fun x7 =>
(gm_belowOf M x1).bind fun x8 =>
some ((x7 - x8), M))
else (if x1 = 0 then (some (9999, M))
else ((zs_ald 33 (M.2.1 48) (24 + x1)).bind fun x3 =>
(gm_joinsOf M x3 x2).bind fun p4 =>
(gm_belowOf p4.2 x1).bind fun x5 =>
(zs_ald 33 (p4.2.2.1 48) (6 + x2)).bind fun x6 =>
some (((p4.1 - x5) - x6), p4.2)))
set_option maxHeartbeats 4000000 in
theorem km_spareAt (D : zs_D) (h0 : zs_AH) (m : Nat) (M : zm_S) (a1 : Int32) : zs_Con D (zm_R h0 m) zm_bd zs_eI yX10_spareAt cX10_spareAt 4 (some .int) 5 [.ref m, .int a1] M (gm_spareAt M a1) := by
  unfold gm_spareAt
  refine zs_con (own := RX10) (nm := "spareAt") pl_X10 rfl rfl (Nat.le_of_ble_eq_true rfl) ?_
  refine zs_lv (lv' := [(0, .ref m), (1, .int a1)]) rfl ?_
  refine zs_iload_n (pc := 0) 1 dX10_spareAt_0 rfl rfl ?_
  refine zs_iconst (pc := 1) (v := 2) dX10_spareAt_1 rfl ?_
  refine zs_idivK (pc := 2) dX10_spareAt_2 (by decide) ?_
  refine zs_nm (fun x1 => ?_)
  refine zs_istore_n (pc := 3) (lv' := [(0, .ref m), (1, .int a1), (2, .int x1)]) [1, 2, 0] dX10_spareAt_3 rfl (by decide) rfl ?_
  refine zs_aload_n (pc := 4) 0 dX10_spareAt_4 rfl rfl ?_
  refine zm_geta (pc := 5) 48 30 (by decide) rfl q1581 dX10_spareAt_5 ?_
  refine zs_bipush (pc := 8) (v := 25) dX10_spareAt_8 (by decide) ?_
  refine zs_iload_n (pc := 10) 2 dX10_spareAt_10 rfl rfl ?_
  refine zs_iadd (pc := 11) dX10_spareAt_11 ?_
  refine zm_iald (pc := 12) 48 30 zm_p48 dX10_spareAt_12 (fun x2 => ?_)
  refine zs_istore_n (pc := 13) (lv' := [(0, .ref m), (1, .int a1), (2, .int x1), (3, .int x2)]) [1, 2, 3, 0] dX10_spareAt_13 rfl (by decide) rfl ?_
  refine zs_iload_n (pc := 14) 1 dX10_spareAt_14 rfl rfl ?_
  refine zs_iconst (pc := 15) (v := 2) dX10_spareAt_15 rfl ?_
  refine zs_iremK (pc := 16) dX10_spareAt_16 (by decide) ?_
  refine zs_iconst (pc := 17) (v := 1) dX10_spareAt_17 rfl ?_
  refine zs_icmp_ne (pc := 18) (tgt := 37) dX10_spareAt_18 (by decide) ?_ ?_
  · refine zs_aload_n (pc := 21) 0 dX10_spareAt_21 rfl rfl ?_
    refine zm_geta (pc := 22) 48 30 (by decide) rfl q1581 dX10_spareAt_22 ?_
    refine zs_bipush (pc := 25) (v := 12) dX10_spareAt_25 (by decide) ?_
    refine zs_iload_n (pc := 27) 3 dX10_spareAt_27 rfl rfl ?_
    refine zs_iadd (pc := 28) dX10_spareAt_28 ?_
    refine zm_iald (pc := 29) 48 30 zm_p48 dX10_spareAt_29 (fun x7 => ?_)
    refine zs_aload_n (pc := 30) 0 dX10_spareAt_30 rfl rfl ?_
    refine zs_iload_n (pc := 31) 2 dX10_spareAt_31 rfl rfl ?_
    refine zs_callVrI (pc := 32) [.int x1] [.int x7] (km_belowOf D h0 m M x1) kv_belowOf q1983 zc_X10 zm_recv dX10_spareAt_32 rfl rfl (Nat.le_of_ble_eq_true rfl) (Nat.le_of_ble_eq_true rfl) (fun x8 => ?_)
    refine zs_isub (pc := 35) dX10_spareAt_35 ?_
    exact zs_iret (pc := 36) dX10_spareAt_36 rfl rfl rfl
  · refine zs_iload_n (pc := 37) 2 dX10_spareAt_37 rfl rfl ?_
    refine zs_if_ne (pc := 38) (tgt := 47) dX10_spareAt_38 (by decide) ?_ ?_
    · refine zs_sipush (pc := 41) (v := 9999) dX10_spareAt_41 (by decide) ?_
      refine zs_goto (pc := 44) (tgt := 77) dX10_spareAt_44 (by decide) ?_
      exact zs_iret (pc := 77) dX10_spareAt_77 rfl rfl rfl
    · refine zs_aload_n (pc := 47) 0 dX10_spareAt_47 rfl rfl ?_
      refine zs_aload_n (pc := 48) 0 dX10_spareAt_48 rfl rfl ?_
      refine zm_geta (pc := 49) 48 30 (by decide) rfl q1581 dX10_spareAt_49 ?_
      refine zs_bipush (pc := 52) (v := 24) dX10_spareAt_52 (by decide) ?_
      refine zs_iload_n (pc := 54) 2 dX10_spareAt_54 rfl rfl ?_
      refine zs_iadd (pc := 55) dX10_spareAt_55 ?_
      refine zm_iald (pc := 56) 48 30 zm_p48 dX10_spareAt_56 (fun x3 => ?_)
      refine zs_iload_n (pc := 57) 3 dX10_spareAt_57 rfl rfl ?_
      refine zs_callVwI (pc := 58) [.int x3, .int x2] [] (km_joinsOf D h0 m M x3 x2) kv_joinsOf q1936 zc_X10 zm_recv dX10_spareAt_58 rfl rfl (Nat.le_of_ble_eq_true rfl) (Nat.le_of_ble_eq_true rfl) (fun p4 => ?_)
      refine zs_aload_n (pc := 61) 0 dX10_spareAt_61 rfl rfl ?_
      refine zs_iload_n (pc := 62) 2 dX10_spareAt_62 rfl rfl ?_
      refine zs_callVrI (pc := 63) [.int x1] [.int p4.1] (km_belowOf D h0 m p4.2 x1) kv_belowOf q1983 zc_X10 zm_recv dX10_spareAt_63 rfl rfl (Nat.le_of_ble_eq_true rfl) (Nat.le_of_ble_eq_true rfl) (fun x5 => ?_)
      refine zs_isub (pc := 66) dX10_spareAt_66 ?_
      refine zs_aload_n (pc := 67) 0 dX10_spareAt_67 rfl rfl ?_
      refine zm_geta (pc := 68) 48 30 (by decide) rfl q1581 dX10_spareAt_68 ?_
      refine zs_bipush (pc := 71) (v := 6) dX10_spareAt_71 (by decide) ?_
      refine zs_iload_n (pc := 73) 3 dX10_spareAt_73 rfl rfl ?_
      refine zs_iadd (pc := 74) dX10_spareAt_74 ?_
      refine zm_iald (pc := 75) 48 30 zm_p48 dX10_spareAt_75 (fun x6 => ?_)
      refine zs_isub (pc := 76) dX10_spareAt_76 ?_
      exact zs_iret (pc := 77) dX10_spareAt_77 rfl rfl rfl
