/-! what the reader reaches, walked: what each method computes (gp_), that its code computes it (kp_). Printed by wip/D-73134w/gen/reader.py -/
set_option maxRecDepth 100000
theorem wp_X12_init : zs_mI yX12_init cX12_init 1 0 := ⟨q799, q157, q800, by decide, rfl, by decide +kernel⟩
def gp_X12_init (w : Nat → Nat) (c : Nat) (M : ps_S) (a0 : Nat) : Option (ps_S) :=
some M
set_option maxHeartbeats 4000000 in
theorem kp_X12_init (D : zs_D) (Wd : cs_W) (c : Nat) (hE : D.2.2.2 1 = .ref (Wd.1 100)) (hF : D.2.2.2 4 = hp_v (Wd.1 101)) (M : ps_S) (a0 : Nat) : zs_Con D (ps_R Wd c) ps_bd zs_eV yX12_init cX12_init 1 none 1 [.ref a0] M ((gp_X12_init Wd.1 c M a0).map fun x => ((), x)) := by
  unfold gp_X12_init
  refine zs_conV (own := RX12) (nm := "<init>") pl_X12 rfl rfl (Nat.le_of_ble_eq_true rfl) ?_
  refine zs_lv (lv' := [(0, .ref a0)]) rfl ?_
  refine zs_aload_n (pc := 0) 0 dX12_init_0 rfl rfl ?_
  refine zs_objI (pc := 1) (a := a0) q801 q175 q176 dX12_init_1 (Nat.le_of_ble_eq_true rfl) (Nat.le_of_ble_eq_true rfl) ?_
  exact zs_vret (pc := 4) dX12_init_4 rfl rfl
theorem wp_X13_init : zs_mI yX13_init cX13_init 2 1 := ⟨q796, q158, q797, by decide, rfl, by decide +kernel⟩
def gp_X13_init (w : Nat → Nat) (c : Nat) (M : ps_S) (a0 : Nat) (a1 : Int32) : Option (ps_S) :=
(gp_X12_init w c M a0).bind fun M1 =>
(ps_pV c M1 a0 13 1 0 (.int a1)).bind fun M2 =>
some M2
set_option maxHeartbeats 4000000 in
theorem kp_X13_init (D : zs_D) (Wd : cs_W) (c : Nat) (hE : D.2.2.2 1 = .ref (Wd.1 100)) (hF : D.2.2.2 4 = hp_v (Wd.1 101)) (M : ps_S) (a0 : Nat) (a1 : Int32) : zs_Con D (ps_R Wd c) ps_bd zs_eV yX13_init cX13_init 2 none 2 [.ref a0, .int a1] M ((gp_X13_init Wd.1 c M a0 a1).map fun x => ((), x)) := by
  unfold gp_X13_init
  refine zs_conV (own := RX13) (nm := "<init>") pl_X13 rfl rfl (Nat.le_of_ble_eq_true rfl) ?_
  refine zs_lv (lv' := [(0, .ref a0), (1, .int a1)]) rfl ?_
  refine zs_aload_n (pc := 0) 0 dX13_init_0 rfl rfl ?_
  refine zs_callIN0 (pc := 1) [] [] (kp_X12_init D Wd c hE hF M a0) wp_X12_init q798 dX13_init_1 rfl rfl (Nat.le_of_ble_eq_true rfl) (Nat.le_of_ble_eq_true rfl) (fun M1 _ => ?_)
  refine zs_aload_n (pc := 4) 0 dX13_init_4 rfl rfl ?_
  refine zs_iload_n (pc := 5) 1 dX13_init_5 rfl rfl ?_
  refine ps_putF (pc := 6) (ci := 13) (k := 0) zc_X13 (by decide) q802 rfl rfl rfl rfl rfl dX13_init_6 (fun M2 => ?_)
  exact zs_vret (pc := 9) dX13_init_9 rfl rfl
theorem wp_X14_init : zs_mI yX14_init cX14_init 2 1 := ⟨q809, q159, q810, by decide, rfl, by decide +kernel⟩
def gp_X14_init (w : Nat → Nat) (c : Nat) (M : ps_S) (a0 : Nat) (a1 : Int32) : Option (ps_S) :=
(gp_X12_init w c M a0).bind fun M1 =>
(ps_pV c M1 a0 14 1 0 (.int a1)).bind fun M2 =>
some M2
set_option maxHeartbeats 4000000 in
theorem kp_X14_init (D : zs_D) (Wd : cs_W) (c : Nat) (hE : D.2.2.2 1 = .ref (Wd.1 100)) (hF : D.2.2.2 4 = hp_v (Wd.1 101)) (M : ps_S) (a0 : Nat) (a1 : Int32) : zs_Con D (ps_R Wd c) ps_bd zs_eV yX14_init cX14_init 2 none 2 [.ref a0, .int a1] M ((gp_X14_init Wd.1 c M a0 a1).map fun x => ((), x)) := by
  unfold gp_X14_init
  refine zs_conV (own := RX14) (nm := "<init>") pl_X14 rfl rfl (Nat.le_of_ble_eq_true rfl) ?_
  refine zs_lv (lv' := [(0, .ref a0), (1, .int a1)]) rfl ?_
  refine zs_aload_n (pc := 0) 0 dX14_init_0 rfl rfl ?_
  refine zs_callIN0 (pc := 1) [] [] (kp_X12_init D Wd c hE hF M a0) wp_X12_init q811 dX14_init_1 rfl rfl (Nat.le_of_ble_eq_true rfl) (Nat.le_of_ble_eq_true rfl) (fun M1 _ => ?_)
  refine zs_aload_n (pc := 4) 0 dX14_init_4 rfl rfl ?_
  refine zs_iload_n (pc := 5) 1 dX14_init_5 rfl rfl ?_
  refine ps_putF (pc := 6) (ci := 14) (k := 0) zc_X14 (by decide) q812 rfl rfl rfl rfl rfl dX14_init_6 (fun M2 => ?_)
  exact zs_vret (pc := 9) dX14_init_9 rfl rfl
theorem wp_X15_init : zs_mI yX15_init cX15_init 4 3 := ⟨q819, q160, q820, by decide, rfl, by decide +kernel⟩
def gp_X15_init (w : Nat → Nat) (c : Nat) (M : ps_S) (a0 : Nat) (a1 : Int32) (a2 : Nat) (a3 : Nat) : Option (ps_S) :=
(gp_X12_init w c M a0).bind fun M1 =>
(ps_pV c M1 a0 15 3 0 (.int a1)).bind fun M2 =>
(ps_pV c M2 a0 15 3 1 (.ref a2)).bind fun M3 =>
(ps_pV c M3 a0 15 3 2 (.ref a3)).bind fun M4 =>
some M4
set_option maxHeartbeats 4000000 in
theorem kp_X15_init (D : zs_D) (Wd : cs_W) (c : Nat) (hE : D.2.2.2 1 = .ref (Wd.1 100)) (hF : D.2.2.2 4 = hp_v (Wd.1 101)) (M : ps_S) (a0 : Nat) (a1 : Int32) (a2 : Nat) (a3 : Nat) : zs_Con D (ps_R Wd c) ps_bd zs_eV yX15_init cX15_init 4 none 2 [.ref a0, .int a1, .ref a2, .ref a3] M ((gp_X15_init Wd.1 c M a0 a1 a2 a3).map fun x => ((), x)) := by
  unfold gp_X15_init
  refine zs_conV (own := RX15) (nm := "<init>") pl_X15 rfl rfl (Nat.le_of_ble_eq_true rfl) ?_
  refine zs_lv (lv' := [(0, .ref a0), (1, .int a1), (2, .ref a2), (3, .ref a3)]) rfl ?_
  refine zs_aload_n (pc := 0) 0 dX15_init_0 rfl rfl ?_
  refine zs_callIN0 (pc := 1) [] [] (kp_X12_init D Wd c hE hF M a0) wp_X12_init q821 dX15_init_1 rfl rfl (Nat.le_of_ble_eq_true rfl) (Nat.le_of_ble_eq_true rfl) (fun M1 _ => ?_)
  refine zs_aload_n (pc := 4) 0 dX15_init_4 rfl rfl ?_
  refine zs_iload_n (pc := 5) 1 dX15_init_5 rfl rfl ?_
  refine ps_putF (pc := 6) (ci := 15) (k := 0) zc_X15 (by decide) q822 rfl rfl rfl rfl rfl dX15_init_6 (fun M2 => ?_)
  refine zs_aload_n (pc := 9) 0 dX15_init_9 rfl rfl ?_
  refine zs_aload_n (pc := 10) 2 dX15_init_10 rfl rfl ?_
  refine ps_putF (pc := 11) (ci := 15) (k := 1) zc_X15 (by decide) q823 rfl rfl rfl rfl rfl dX15_init_11 (fun M3 => ?_)
  refine zs_aload_n (pc := 14) 0 dX15_init_14 rfl rfl ?_
  refine zs_aload_n (pc := 15) 3 dX15_init_15 rfl rfl ?_
  refine ps_putF (pc := 16) (ci := 15) (k := 2) zc_X15 (by decide) q824 rfl rfl rfl rfl rfl dX15_init_16 (fun M4 => ?_)
  exact zs_vret (pc := 19) dX15_init_19 rfl rfl
theorem wp_X16_init : zs_mI yX16_init cX16_init 2 1 := ⟨q1036, q161, q1037, by decide, rfl, by decide +kernel⟩
def gp_X16_init (w : Nat → Nat) (c : Nat) (M : ps_S) (a0 : Nat) (a1 : Nat) : Option (ps_S) :=
(ps_pV c M a0 16 3 0 (.ref a1)).bind fun M1 =>
some M1
set_option maxHeartbeats 4000000 in
theorem kp_X16_init (D : zs_D) (Wd : cs_W) (c : Nat) (hE : D.2.2.2 1 = .ref (Wd.1 100)) (hF : D.2.2.2 4 = hp_v (Wd.1 101)) (M : ps_S) (a0 : Nat) (a1 : Nat) : zs_Con D (ps_R Wd c) ps_bd zs_eV yX16_init cX16_init 2 none 1 [.ref a0, .ref a1] M ((gp_X16_init Wd.1 c M a0 a1).map fun x => ((), x)) := by
  unfold gp_X16_init
  refine zs_conV (own := RX16) (nm := "<init>") pl_X16 rfl rfl (Nat.le_of_ble_eq_true rfl) ?_
  refine zs_lv (lv' := [(0, .ref a0), (1, .ref a1)]) rfl ?_
  refine zs_aload_n (pc := 0) 0 dX16_init_0 rfl rfl ?_
  refine zs_objI (pc := 1) (a := a0) q1038 q175 q176 dX16_init_1 (Nat.le_of_ble_eq_true rfl) (Nat.le_of_ble_eq_true rfl) ?_
  refine zs_aload_n (pc := 4) 0 dX16_init_4 rfl rfl ?_
  refine zs_aload_n (pc := 5) 1 dX16_init_5 rfl rfl ?_
  refine ps_putF (pc := 6) (ci := 16) (k := 0) zc_X16 (by decide) q1039 rfl rfl rfl rfl rfl dX16_init_6 (fun M1 => ?_)
  exact zs_vret (pc := 9) dX16_init_9 rfl rfl
theorem wp_X11_init : zs_mI yX11_init cX11_init 1 0 := ⟨q739, q156, q740, by decide, rfl, by decide +kernel⟩
def gp_X11_init (w : Nat → Nat) (c : Nat) (M : ps_S) (a0 : Nat) : Option (ps_S) :=
(ps_na M 6 .null 4).bind fun z1 =>
(ps_pV c z1.2 a0 11 4 0 (.ref z1.1)).bind fun M2 =>
(ps_na M2 6 .null 4).bind fun z3 =>
(ps_pV c z3.2 a0 11 4 1 (.ref z3.1)).bind fun M4 =>
(ps_na M4 6 .null 5).bind fun z5 =>
(ps_pV c z5.2 a0 11 4 2 (.ref z5.1)).bind fun M6 =>
some M6
set_option maxHeartbeats 4000000 in
theorem kp_X11_init (D : zs_D) (Wd : cs_W) (c : Nat) (hE : D.2.2.2 1 = .ref (Wd.1 100)) (hF : D.2.2.2 4 = hp_v (Wd.1 101)) (M : ps_S) (a0 : Nat) : zs_Con D (ps_R Wd c) ps_bd zs_eV yX11_init cX11_init 1 none 1 [.ref a0] M ((gp_X11_init Wd.1 c M a0).map fun x => ((), x)) := by
  unfold gp_X11_init
  refine zs_conV (own := RX11) (nm := "<init>") pl_X11 rfl rfl (Nat.le_of_ble_eq_true rfl) ?_
  refine zs_lv (lv' := [(0, .ref a0)]) rfl ?_
  refine zs_aload_n (pc := 0) 0 dX11_init_0 rfl rfl ?_
  refine zs_objI (pc := 1) (a := a0) q741 q175 q176 dX11_init_1 (Nat.le_of_ble_eq_true rfl) (Nat.le_of_ble_eq_true rfl) ?_
  refine zs_aload_n (pc := 4) 0 dX11_init_4 rfl rfl ?_
  refine zs_iconst (pc := 5) (v := 4) dX11_init_5 rfl ?_
  refine ps_newq (pc := 6) (t := 6) rfl q742 q743 dX11_init_6 (fun z1 => ?_)
  refine ps_putF (pc := 9) (ci := 11) (k := 0) zc_X11 (by decide) q744 rfl rfl rfl rfl rfl dX11_init_9 (fun M2 => ?_)
  refine zs_aload_n (pc := 12) 0 dX11_init_12 rfl rfl ?_
  refine zs_iconst (pc := 13) (v := 4) dX11_init_13 rfl ?_
  refine ps_newq (pc := 14) (t := 6) rfl q742 q743 dX11_init_14 (fun z3 => ?_)
  refine ps_putF (pc := 17) (ci := 11) (k := 1) zc_X11 (by decide) q746 rfl rfl rfl rfl rfl dX11_init_17 (fun M4 => ?_)
  refine zs_aload_n (pc := 20) 0 dX11_init_20 rfl rfl ?_
  refine zs_iconst (pc := 21) (v := 5) dX11_init_21 rfl ?_
  refine ps_newq (pc := 22) (t := 6) rfl q742 q743 dX11_init_22 (fun z5 => ?_)
  refine ps_putF (pc := 25) (ci := 11) (k := 2) zc_X11 (by decide) q748 rfl rfl rfl rfl rfl dX11_init_25 (fun M6 => ?_)
  exact zs_vret (pc := 28) dX11_init_28 rfl rfl
theorem wp_X4_init : zs_mI yX4_init cX4_init 3 0 := ⟨q343, q141, q344, by decide, rfl, by decide +kernel⟩
def g_X4_init_L57 (c : Nat) (a0 : Nat) (t49 : Int32 × ps_S) : (Int32 × ps_S) → Option ((Int32 × ps_S) ⊕ (ps_S)) := fun t57 =>
if t57.1 < 6 then ((ps_gR c t57.2 a0 4 8 2).bind fun y10 =>
(ps_aR c t57.2 y10 10 t49.1).bind fun y11 =>
(ps_pA c t57.2 y11 0 t57.1 (.int 5)).bind fun M12 =>
some (Sum.inl ((t57.1 + 1), M12)))
else (some (Sum.inr t57.2))
def g_X4_init_L49 (c : Nat) (a0 : Nat) : (Int32 × ps_S) → Option ((Int32 × ps_S) ⊕ (ps_S)) := fun t49 =>
if t49.1 < 6 then ((zs_loop 5000 (g_X4_init_L57 c a0 t49) (0, t49.2)).bind fun (r13 : ps_S) =>
some (Sum.inl ((t49.1 + 1), r13)))
else (some (Sum.inr t49.2))
def gp_X4_init (w : Nat → Nat) (c : Nat) (M : ps_S) (a0 : Nat) : Option (ps_S) :=
(ps_nw M (17, 3, fun k => defaultValue (tyJ5 k)) 3).bind fun z1 =>
(gp_J5_init w c z1.2 z1.1).bind fun M2 =>
(ps_pV c M2 a0 4 8 0 (.ref z1.1)).bind fun M3 =>
(ps_na M3 5 .null 4).bind fun z4 =>
(ps_pV c z4.2 a0 4 8 1 (.ref z4.1)).bind fun M5 =>
(ps_mn M5 6 6).bind fun z6 =>
(ps_pV c z6.2 a0 4 8 2 (.ref z6.1)).bind fun M7 =>
(ps_pV c M7 a0 4 8 4 (.int 20)).bind fun M8 =>
(ps_pV c M8 a0 4 8 5 (.int 10)).bind fun M9 =>
(zs_loop 5000 (g_X4_init_L49 c a0) (0, M9)).bind fun z => some z
set_option maxHeartbeats 4000000 in
theorem kp_X4_init (D : zs_D) (Wd : cs_W) (c : Nat) (hE : D.2.2.2 1 = .ref (Wd.1 100)) (hF : D.2.2.2 4 = hp_v (Wd.1 101)) (M : ps_S) (a0 : Nat) : zs_Con D (ps_R Wd c) ps_bd zs_eV yX4_init cX4_init 3 none 4 [.ref a0] M ((gp_X4_init Wd.1 c M a0).map fun x => ((), x)) := by
  unfold gp_X4_init
  refine zs_conV (own := RX4) (nm := "<init>") pl_X4 rfl rfl (Nat.le_of_ble_eq_true rfl) ?_
  refine zs_lv (lv' := [(0, .ref a0)]) rfl ?_
  refine zs_aload_n (pc := 0) 0 dX4_init_0 rfl rfl ?_
  refine zs_objI (pc := 1) (a := a0) q345 q175 q176 dX4_init_1 (Nat.le_of_ble_eq_true rfl) (Nat.le_of_ble_eq_true rfl) ?_
  refine zs_aload_n (pc := 4) 0 dX4_init_4 rfl rfl ?_
  refine ps_new (pc := 5) zc_J5 q346 q347 q144 dX4_init_5 (fun z1 => ?_)
  refine zs_dup (pc := 8) dX4_init_8 rfl ?_
  refine zs_callI0 (pc := 9) [] [.ref z1.1, .ref a0] (kp_J5_init D Wd c hE hF z1.2 z1.1) wp_J5_init q348 dX4_init_9 rfl rfl (Nat.le_of_ble_eq_true rfl) (Nat.le_of_ble_eq_true rfl) (fun M2 _ => ?_)
  refine ps_putF (pc := 12) (ci := 4) (k := 0) zc_X4 (by decide) q376 rfl rfl rfl rfl rfl dX4_init_12 (fun M3 => ?_)
  refine zs_aload_n (pc := 15) 0 dX4_init_15 rfl rfl ?_
  refine zs_iconst (pc := 16) (v := 4) dX4_init_16 rfl ?_
  refine ps_newq (pc := 17) (t := 5) rfl q372 q373 dX4_init_17 (fun z4 => ?_)
  refine ps_putF (pc := 20) (ci := 4) (k := 1) zc_X4 (by decide) q380 rfl rfl rfl rfl rfl dX4_init_20 (fun M5 => ?_)
  refine zs_aload_n (pc := 23) 0 dX4_init_23 rfl rfl ?_
  refine zs_bipush (pc := 24) (v := 6) dX4_init_24 (by decide) ?_
  refine zs_bipush (pc := 26) (v := 6) dX4_init_26 (by decide) ?_
  refine ps_mna (pc := 28) (n := 6) (k := 6) q374 rfl rfl (by decide) (by decide) dX4_init_28 (fun z6 => ?_)
  refine ps_putF (pc := 32) (ci := 4) (k := 2) zc_X4 (by decide) q383 rfl rfl rfl rfl rfl dX4_init_32 (fun M7 => ?_)
  refine zs_aload_n (pc := 35) 0 dX4_init_35 rfl rfl ?_
  refine zs_bipush (pc := 36) (v := 20) dX4_init_36 (by decide) ?_
  refine ps_put (pc := 38) (ci := 4) (k := 4) zc_X4 (by decide) q388 rfl rfl rfl dX4_init_38 (fun M8 => ?_)
  refine zs_aload_n (pc := 41) 0 dX4_init_41 rfl rfl ?_
  refine zs_bipush (pc := 42) (v := 10) dX4_init_42 (by decide) ?_
  refine ps_put (pc := 44) (ci := 4) (k := 5) zc_X4 (by decide) q391 rfl rfl rfl dX4_init_44 (fun M9 => ?_)
  refine zs_iconst (pc := 47) (v := 0) dX4_init_47 rfl ?_
  refine zs_istore_n (pc := 48) (lv' := [(0, .ref a0), (1, .int 0)]) [1, 0] dX4_init_48 rfl (by decide) rfl ?_
  refine zs_whileX (pc := 49) (fun (t49 : Int32 × ps_S) => t49.2) (fun (t49 : Int32 × ps_S) => [(0, .ref a0), (1, .int t49.1)]) 5000 (0, M9) (fun X49 hL49 hR49 t49 => ?_)
  unfold g_X4_init_L49
  refine zs_iload_n (pc := 49) 1 dX4_init_49 rfl rfl ?_
  refine zs_bipush (pc := 50) (v := 6) dX4_init_50 (by decide) ?_
  refine zs_icmp_ge (pc := 52) (tgt := 84) dX4_init_52 (by decide) ?_ ?_
  · refine zs_iconst (pc := 55) (v := 0) dX4_init_55 rfl ?_
    refine zs_istore_n (pc := 56) (lv' := [(0, .ref a0), (1, .int t49.1), (2, .int 0)]) [1, 2, 0] dX4_init_56 rfl (by decide) rfl ?_
    refine zs_whileJ (pc := 57) (fun (t57 : Int32 × ps_S) => t57.2) (fun (t57 : Int32 × ps_S) => [(0, .ref a0), (1, .int t49.1), (2, .int t57.1)]) 5000 (0, t49.2) (fun (r13 : ps_S) => r13) 78 (fun (r13 : ps_S) => [(0, .ref a0), (1, .int t49.1)]) [] (fun r13 => ?_) (fun X57 hL57 hE57 t57 => ?_)
    · refine zs_iinc (pc := 78) (lv' := [(0, .ref a0), (1, .int (t49.1 + 1))]) 1 [1, 0] dX4_init_78 rfl rfl (by decide) rfl ?_
      refine zs_goto (pc := 81) (tgt := 49) dX4_init_81 (by decide) ?_
      exact hL49 ((t49.1 + 1), r13)
    · unfold g_X4_init_L57
      refine zs_iload_n (pc := 57) 2 dX4_init_57 rfl rfl ?_
      refine zs_bipush (pc := 58) (v := 6) dX4_init_58 (by decide) ?_
      refine zs_icmp_ge (pc := 60) (tgt := 78) dX4_init_60 (by decide) ?_ ?_
      · refine zs_aload_n (pc := 63) 0 dX4_init_63 rfl rfl ?_
        refine ps_dR (pc := 64) (ci := 4) (k := 2) zc_X4 (by decide) q383 dX4_init_64 (fun y10 => ?_)
        refine zs_iload_n (pc := 67) 1 dX4_init_67 rfl rfl ?_
        refine ps_aald (pc := 68) (t := 10) rfl rfl dX4_init_68 (fun y11 => ?_)
        refine zs_iload_n (pc := 69) 2 dX4_init_69 rfl rfl ?_
        refine zs_iconst (pc := 70) (v := 5) dX4_init_70 rfl ?_
        refine ps_iast (pc := 71) dX4_init_71 (fun M12 => ?_)
        refine zs_iinc (pc := 72) (lv' := [(0, .ref a0), (1, .int t49.1), (2, .int (t57.1 + 1))]) 2 [1, 2, 0] dX4_init_72 rfl rfl (by decide) rfl ?_
        refine zs_goto (pc := 75) (tgt := 57) dX4_init_75 (by decide) ?_
        exact hL57 ((t57.1 + 1), M12)
      · refine zs_sub (lv' := [(0, .ref a0), (1, .int t49.1)]) [0, 1] rfl ?_
        exact hE57 t57.2
  · exact zs_vret (pc := 84) dX4_init_84 ((hR49 _).trans rfl) rfl
theorem wp_X4_at : zs_mS yX4_at cX4_at 3 (some .int) 2 := ⟨q1018, q141, q1019, by decide, by decide +kernel⟩
def g_X4_at_L2 (c : Nat) (M : ps_S) (a0 : Nat) (w : Nat → Nat) (a1 : Nat) : (Int32) → Option ((Int32) ⊕ (Int32)) := fun t2 =>
(ps_ck c M a0 17).bind fun _ =>
(gp_J5_size w c M a0).bind fun x2 =>
if t2 < x2 then ((ps_ck c M a0 17).bind fun _ =>
(gp_J5_get w c M a0 t2).bind fun y4 =>
(ps_ck c M y4 16).bind fun _ =>
(ps_gR c M y4 16 3 0).bind fun y6 =>
(ps_ck c M y6 18).bind fun _ =>
(gp_J8_equals w c M y6 a1).bind fun b8 =>
if b8 = true then (some (Sum.inr t2))
else (some (Sum.inl (t2 + 1))))
else (some (Sum.inr (-1)))
def gp_X4_at (w : Nat → Nat) (c : Nat) (M : ps_S) (a0 : Nat) (a1 : Nat) : Option (Int32) :=
(zs_loop 5000 (g_X4_at_L2 c M a0 w a1) 0).bind fun z => some z
set_option maxHeartbeats 4000000 in
theorem kp_X4_at (D : zs_D) (Wd : cs_W) (c : Nat) (hE : D.2.2.2 1 = .ref (Wd.1 100)) (hF : D.2.2.2 4 = hp_v (Wd.1 101)) (M : ps_S) (a0 : Nat) (a1 : Nat) : zs_Con D (ps_R Wd c) ps_bd zs_eI yX4_at cX4_at 3 (some .int) 4 [.ref a0, .ref a1] M ((gp_X4_at Wd.1 c M a0 a1).map fun x => (x, M)) := by
  unfold gp_X4_at
  refine zs_conR (own := RX4) (nm := "at") pl_X4 rfl rfl (Nat.le_of_ble_eq_true rfl) ?_
  refine zs_lv (lv' := [(0, .ref a0), (1, .ref a1)]) rfl ?_
  refine zs_iconst (pc := 0) (v := 0) dX4_at_0 rfl ?_
  refine zs_istore_n (pc := 1) (lv' := [(0, .ref a0), (1, .ref a1), (2, .int 0)]) [1, 2, 0] dX4_at_1 rfl (by decide) rfl ?_
  refine zs_whileX (pc := 2) (fun (t2 : Int32) => M) (fun (t2 : Int32) => [(0, .ref a0), (1, .ref a1), (2, .int t2)]) 5000 0 (fun X2 hL2 hR2 t2 => ?_)
  unfold g_X4_at_L2
  refine zs_iload_n (pc := 2) 2 dX4_at_2 rfl rfl ?_
  refine zs_aload_n (pc := 3) 0 dX4_at_3 rfl rfl ?_
  refine ps_ckr (pc := 4) (a := a0) (ci := 17) (fun hc1 => ?_)
  refine zs_callVrI (pc := 4) [] [.int t2] (kp_J5_size D Wd c hE hF M a0) wp_J5_size q1020 zc_J5 hc1 dX4_at_4 rfl rfl (Nat.le_of_ble_eq_true rfl) (Nat.le_of_ble_eq_true rfl) (fun x2 => ?_)
  refine zs_icmp_ge (pc := 7) (tgt := 36) dX4_at_7 (by decide) ?_ ?_
  · refine zs_aload_n (pc := 10) 0 dX4_at_10 rfl rfl ?_
    refine zs_iload_n (pc := 11) 2 dX4_at_11 rfl rfl ?_
    refine ps_ckr (pc := 12) (a := a0) (ci := 17) (fun hc3 => ?_)
    refine zs_callVrR (pc := 12) [.int t2] [] (kp_J5_get D Wd c hE hF M a0 t2) wp_J5_get q1021 zc_J5 hc3 dX4_at_12 rfl rfl (Nat.le_of_ble_eq_true rfl) (Nat.le_of_ble_eq_true rfl) (fun y4 => ?_)
    refine ps_ckr (pc := 15) (a := y4) (fun hc5 => ?_)
    refine zs_castS (pc := 15) zc_X16 q1022 hc5 dX4_at_15 ?_
    refine ps_dR (pc := 18) (ci := 16) (k := 0) zc_X16 (by decide) q1040 dX4_at_18 (fun y6 => ?_)
    refine zs_aload_n (pc := 21) 1 dX4_at_21 rfl rfl ?_
    refine ps_ckr (pc := 22) (a := y6) (ci := 18) (fun hc7 => ?_)
    refine zs_callVrB (pc := 22) [.ref a1] [] (kp_J8_equals D Wd c hE hF M y6 a1) wp_J8_equals q1023 zc_J8 hc7 dX4_at_22 rfl rfl (Nat.le_of_ble_eq_true rfl) (Nat.le_of_ble_eq_true rfl) (fun b8 => ?_)
    refine zs_if_f (pc := 25) (tgt := 30) dX4_at_25 (by decide) ?_ ?_
    · refine zs_iload_n (pc := 28) 2 dX4_at_28 rfl rfl ?_
      exact zs_iret (pc := 29) dX4_at_29 ((hR2 _).trans rfl) rfl rfl
    · refine zs_iinc (pc := 30) (lv' := [(0, .ref a0), (1, .ref a1), (2, .int (t2 + 1))]) 2 [1, 2, 0] dX4_at_30 rfl rfl (by decide) rfl ?_
      refine zs_goto (pc := 33) (tgt := 2) dX4_at_33 (by decide) ?_
      exact hL2 (t2 + 1)
  · refine zs_iconst (pc := 36) (v := (-1)) dX4_at_36 rfl ?_
    exact zs_iret (pc := 37) dX4_at_37 ((hR2 _).trans rfl) rfl rfl
theorem wp_X4_has : zs_mV RX4 yX4_has cX4_has 2 (some .boolean) 1 := ⟨q1014, q1015, q141, q1016, by decide, by decide +kernel⟩
def gp_X4_has (w : Nat → Nat) (c : Nat) (M : ps_S) (a0 : Nat) (a1 : Nat) : Option (Bool) :=
(ps_gR c M a0 4 8 0).bind fun y1 =>
(gp_X4_at w c M y1 a1).bind fun x2 =>
if x2 < 0 then (some false)
else (some true)
set_option maxHeartbeats 4000000 in
theorem kp_X4_has (D : zs_D) (Wd : cs_W) (c : Nat) (hE : D.2.2.2 1 = .ref (Wd.1 100)) (hF : D.2.2.2 4 = hp_v (Wd.1 101)) (M : ps_S) (a0 : Nat) (a1 : Nat) : zs_Con D (ps_R Wd c) ps_bd zs_eB yX4_has cX4_has 2 (some .boolean) 5 [.ref a0, .ref a1] M ((gp_X4_has Wd.1 c M a0 a1).map fun x => (x, M)) := by
  unfold gp_X4_has
  refine zs_conR (own := RX4) (nm := "has") pl_X4 rfl rfl (Nat.le_of_ble_eq_true rfl) ?_
  refine zs_lv (lv' := [(0, .ref a0), (1, .ref a1)]) rfl ?_
  refine zs_aload_n (pc := 0) 0 dX4_has_0 rfl rfl ?_
  refine ps_dR (pc := 1) (ci := 4) (k := 0) zc_X4 (by decide) q376 dX4_has_1 (fun y1 => ?_)
  refine zs_aload_n (pc := 4) 1 dX4_has_4 rfl rfl ?_
  refine zs_callSrI (pc := 5) [.ref y1, .ref a1] [] (kp_X4_at D Wd c hE hF M y1 a1) wp_X4_at q1017 dX4_has_5 rfl rfl (Nat.le_of_ble_eq_true rfl) (Nat.le_of_ble_eq_true rfl) (fun x2 => ?_)
  refine zs_if_lt (pc := 8) (tgt := 15) dX4_has_8 (by decide) ?_ ?_
  · refine zs_iconst (pc := 15) (v := 0) dX4_has_15 rfl ?_
    exact zs_iret (pc := 16) dX4_has_16 rfl rfl rfl
  · refine zs_iconst (pc := 11) (v := 1) dX4_has_11 rfl ?_
    refine zs_goto (pc := 12) (tgt := 16) dX4_has_12 (by decide) ?_
    exact zs_iret (pc := 16) dX4_has_16 rfl rfl rfl
theorem wp_X1_of : zs_mV RX1 yX1_of cX1_of 3 (some (.object "HairRope$Fault")) 2 := ⟨q721, q722, q138, q723, by decide, by decide +kernel⟩
def gp_X1_of (w : Nat → Nat) (c : Nat) (M : ps_S) (a1 : Int32) (a2 : Int32) : Option (Unit × ps_S) :=
(some (ps_sF M 1 6 a1)).bind fun M1 =>
(some (ps_sF M1 1 7 a2)).bind fun M2 =>
some ((), M2)
set_option maxHeartbeats 4000000 in
theorem kp_X1_of (D : zs_D) (Wd : cs_W) (c : Nat) (hE : D.2.2.2 1 = .ref (Wd.1 100)) (hF : D.2.2.2 4 = hp_v (Wd.1 101)) (M : ps_S) (a1 : Int32) (a2 : Int32) : zs_Con D (ps_R Wd c) ps_bd (zs_eK (c + 1)) yX1_of cX1_of 3 (some (.object "HairRope$Fault")) 0 [.ref (c + 1), .int a1, .int a2] M (gp_X1_of Wd.1 c M a1 a2) := by
  unfold gp_X1_of
  refine zs_con (own := RX1) (nm := "of") pl_X1 rfl rfl (Nat.le_of_ble_eq_true rfl) ?_
  refine zs_lv (lv' := [(0, .ref (c + 1)), (1, .int a1), (2, .int a2)]) rfl ?_
  refine zs_aload_n (pc := 0) 0 dX1_of_0 rfl rfl ?_
  refine zs_iload_n (pc := 1) 1 dX1_of_1 rfl rfl ?_
  refine ps_puti (pc := 2) 1 1 6 ⟨⟨by decide, by decide⟩, rfl⟩ zc_X1 ⟨rfl, rfl⟩ (by decide) rfl q229 rfl rfl rfl dX1_of_2 (fun M1 => ?_)
  refine zs_aload_n (pc := 5) 0 dX1_of_5 rfl rfl ?_
  refine zs_iload_n (pc := 6) 2 dX1_of_6 rfl rfl ?_
  refine ps_puti (pc := 7) 1 1 7 ⟨⟨by decide, by decide⟩, rfl⟩ zc_X1 ⟨rfl, rfl⟩ (by decide) rfl q231 rfl rfl rfl dX1_of_7 (fun M2 => ?_)
  refine zs_aload_n (pc := 10) 0 dX1_of_10 rfl rfl ?_
  exact zs_aret (pc := 11) dX1_of_11 rfl rfl (Or.inl ⟨_, rfl⟩) (Or.inr ⟨_, rfl⟩)
theorem wp_X2_at : zs_mV RX2 yX2_at cX2_at 2 (some .int) 1 := ⟨q642, qs3, q139, q643, by decide, by decide +kernel⟩
def gp_X2_at (w : Nat → Nat) (c : Nat) (M : ps_S) (a1 : Int32) : Option (Int32) :=
if a1 < (M.1.1 2 2) then ((zs_ald 2000 (M.1.2 2 1) a1).bind fun x1 =>
some x1)
else (some 0)
set_option maxHeartbeats 4000000 in
theorem kp_X2_at (D : zs_D) (Wd : cs_W) (c : Nat) (hE : D.2.2.2 1 = .ref (Wd.1 100)) (hF : D.2.2.2 4 = hp_v (Wd.1 101)) (M : ps_S) (a1 : Int32) : zs_Con D (ps_R Wd c) ps_bd zs_eI yX2_at cX2_at 2 (some .int) 0 [.ref (c + 2), .int a1] M ((gp_X2_at Wd.1 c M a1).map fun x => (x, M)) := by
  unfold gp_X2_at
  refine zs_conR (own := RX2) (nm := "at") pl_X2 rfl rfl (Nat.le_of_ble_eq_true rfl) ?_
  refine zs_lv (lv' := [(0, .ref (c + 2)), (1, .int a1)]) rfl ?_
  refine zs_iload_n (pc := 0) 1 dX2_at_0 rfl rfl ?_
  refine zs_aload_n (pc := 1) 0 dX2_at_1 rfl rfl ?_
  refine ps_geti (pc := 2) 2 2 2 ⟨⟨by decide, by decide⟩, rfl⟩ zc_X2 ⟨rfl, rfl⟩ (by decide) rfl q284 dX2_at_2 ?_
  refine zs_icmp_ge (pc := 5) (tgt := 17) dX2_at_5 (by decide) ?_ ?_
  · refine zs_aload_n (pc := 8) 0 dX2_at_8 rfl rfl ?_
    refine ps_getr (pc := 9) 2 2 1 (v := .ref (c + 4)) ⟨⟨by decide, by decide⟩, rfl⟩ zc_X2 ⟨rfl, rfl⟩ (by decide) rfl rfl q282 dX2_at_9 ?_
    refine zs_iload_n (pc := 12) 1 dX2_at_12 rfl rfl ?_
    refine ps_fbald (pc := 13) 4 2 1 ⟨⟨by decide, by decide⟩, rfl, rfl, rfl⟩ dX2_at_13 (fun x1 => ?_)
    refine zs_goto (pc := 14) (tgt := 18) dX2_at_14 (by decide) ?_
    exact zs_iret (pc := 18) dX2_at_18 rfl rfl rfl
  · refine zs_iconst (pc := 17) (v := 0) dX2_at_17 rfl ?_
    exact zs_iret (pc := 18) dX2_at_18 rfl rfl rfl
theorem wp_X2_isDigit : zs_mV RX2 yX2_isDigit cX2_isDigit 2 (some .boolean) 1 := ⟨q696, qs5, q139, q697, by decide, by decide +kernel⟩
def gp_X2_isDigit (w : Nat → Nat) (c : Nat) (M : ps_S) (a1 : Int32) : Option (Bool) :=
(gp_X2_at w c M a1).bind fun x1 =>
zs_let (fun (p2 : Unit) => some false) fun J24 =>
if x1 < 48 then (J24 ())
else ((gp_X2_at w c M a1).bind fun x3 =>
if 57 < x3 then (J24 ())
else (some true))
set_option maxHeartbeats 4000000 in
theorem kp_X2_isDigit (D : zs_D) (Wd : cs_W) (c : Nat) (hE : D.2.2.2 1 = .ref (Wd.1 100)) (hF : D.2.2.2 4 = hp_v (Wd.1 101)) (M : ps_S) (a1 : Int32) : zs_Con D (ps_R Wd c) ps_bd zs_eB yX2_isDigit cX2_isDigit 2 (some .boolean) 1 [.ref (c + 2), .int a1] M ((gp_X2_isDigit Wd.1 c M a1).map fun x => (x, M)) := by
  unfold gp_X2_isDigit
  refine zs_conR (own := RX2) (nm := "isDigit") pl_X2 rfl rfl (Nat.le_of_ble_eq_true rfl) ?_
  refine zs_lv (lv' := [(0, .ref (c + 2)), (1, .int a1)]) rfl ?_
  refine zs_aload_n (pc := 0) 0 dX2_isDigit_0 rfl rfl ?_
  refine zs_iload_n (pc := 1) 1 dX2_isDigit_1 rfl rfl ?_
  refine zs_callVrI (pc := 2) [.int a1] [] (kp_X2_at D Wd c hE hF M a1) wp_X2_at q640 zc_X2 ps_rcvT dX2_isDigit_2 rfl rfl (Nat.le_of_ble_eq_true rfl) (Nat.le_of_ble_eq_true rfl) (fun x1 => ?_)
  refine zs_bipush (pc := 5) (v := 48) dX2_isDigit_5 (by decide) ?_
  refine zs_letJ (pc := 7) (fun (p2 : Unit) => M) 24 (fun (p2 : Unit) => []) (fun (p2 : Unit) => []) (fun p2 => ?_) (fun J24 h24 => ?_)
  · refine zs_iconst (pc := 24) (v := 0) dX2_isDigit_24 rfl ?_
    exact zs_iret (pc := 25) dX2_isDigit_25 rfl rfl rfl
  · refine zs_icmp_lt (pc := 7) (tgt := 24) dX2_isDigit_7 (by decide) ?_ ?_
    · refine zs_sub (lv' := []) [] rfl ?_
      exact h24 ()
    · refine zs_aload_n (pc := 10) 0 dX2_isDigit_10 rfl rfl ?_
      refine zs_iload_n (pc := 11) 1 dX2_isDigit_11 rfl rfl ?_
      refine zs_callVrI (pc := 12) [.int a1] [] (kp_X2_at D Wd c hE hF M a1) wp_X2_at q640 zc_X2 ps_rcvT dX2_isDigit_12 rfl rfl (Nat.le_of_ble_eq_true rfl) (Nat.le_of_ble_eq_true rfl) (fun x3 => ?_)
      refine zs_bipush (pc := 15) (v := 57) dX2_isDigit_15 (by decide) ?_
      refine zs_icmp_gt (pc := 17) (tgt := 24) dX2_isDigit_17 (by decide) ?_ ?_
      · refine zs_sub (lv' := []) [] rfl ?_
        exact h24 ()
      · refine zs_iconst (pc := 20) (v := 1) dX2_isDigit_20 rfl ?_
        refine zs_goto (pc := 21) (tgt := 25) dX2_isDigit_21 (by decide) ?_
        exact zs_iret (pc := 25) dX2_isDigit_25 rfl rfl rfl
theorem wp_X2_isLetter : zs_mV RX2 yX2_isLetter cX2_isLetter 2 (some .boolean) 1 := ⟨q638, qs2, q139, q639, by decide, by decide +kernel⟩
def gp_X2_isLetter (w : Nat → Nat) (c : Nat) (M : ps_S) (a1 : Int32) : Option (Bool) :=
(gp_X2_at w c M a1).bind fun x1 =>
zs_let (fun (p2 : Unit) => some false) fun J24 =>
if x1 < 97 then (J24 ())
else ((gp_X2_at w c M a1).bind fun x3 =>
if 122 < x3 then (J24 ())
else (some true))
set_option maxHeartbeats 4000000 in
theorem kp_X2_isLetter (D : zs_D) (Wd : cs_W) (c : Nat) (hE : D.2.2.2 1 = .ref (Wd.1 100)) (hF : D.2.2.2 4 = hp_v (Wd.1 101)) (M : ps_S) (a1 : Int32) : zs_Con D (ps_R Wd c) ps_bd zs_eB yX2_isLetter cX2_isLetter 2 (some .boolean) 1 [.ref (c + 2), .int a1] M ((gp_X2_isLetter Wd.1 c M a1).map fun x => (x, M)) := by
  unfold gp_X2_isLetter
  refine zs_conR (own := RX2) (nm := "isLetter") pl_X2 rfl rfl (Nat.le_of_ble_eq_true rfl) ?_
  refine zs_lv (lv' := [(0, .ref (c + 2)), (1, .int a1)]) rfl ?_
  refine zs_aload_n (pc := 0) 0 dX2_isLetter_0 rfl rfl ?_
  refine zs_iload_n (pc := 1) 1 dX2_isLetter_1 rfl rfl ?_
  refine zs_callVrI (pc := 2) [.int a1] [] (kp_X2_at D Wd c hE hF M a1) wp_X2_at q640 zc_X2 ps_rcvT dX2_isLetter_2 rfl rfl (Nat.le_of_ble_eq_true rfl) (Nat.le_of_ble_eq_true rfl) (fun x1 => ?_)
  refine zs_bipush (pc := 5) (v := 97) dX2_isLetter_5 (by decide) ?_
  refine zs_letJ (pc := 7) (fun (p2 : Unit) => M) 24 (fun (p2 : Unit) => []) (fun (p2 : Unit) => []) (fun p2 => ?_) (fun J24 h24 => ?_)
  · refine zs_iconst (pc := 24) (v := 0) dX2_isLetter_24 rfl ?_
    exact zs_iret (pc := 25) dX2_isLetter_25 rfl rfl rfl
  · refine zs_icmp_lt (pc := 7) (tgt := 24) dX2_isLetter_7 (by decide) ?_ ?_
    · refine zs_sub (lv' := []) [] rfl ?_
      exact h24 ()
    · refine zs_aload_n (pc := 10) 0 dX2_isLetter_10 rfl rfl ?_
      refine zs_iload_n (pc := 11) 1 dX2_isLetter_11 rfl rfl ?_
      refine zs_callVrI (pc := 12) [.int a1] [] (kp_X2_at D Wd c hE hF M a1) wp_X2_at q640 zc_X2 ps_rcvT dX2_isLetter_12 rfl rfl (Nat.le_of_ble_eq_true rfl) (Nat.le_of_ble_eq_true rfl) (fun x3 => ?_)
      refine zs_bipush (pc := 15) (v := 122) dX2_isLetter_15 (by decide) ?_
      refine zs_icmp_gt (pc := 17) (tgt := 24) dX2_isLetter_17 (by decide) ?_ ?_
      · refine zs_sub (lv' := []) [] rfl ?_
        exact h24 ()
      · refine zs_iconst (pc := 20) (v := 1) dX2_isLetter_20 rfl ?_
        refine zs_goto (pc := 21) (tgt := 25) dX2_isLetter_21 (by decide) ?_
        exact zs_iret (pc := 25) dX2_isLetter_25 rfl rfl rfl
theorem wp_X2_add : zs_mV RX2 yX2_add cX2_add 5 none 4 := ⟨q704, qs7, q139, q705, by decide, by decide +kernel⟩
def gp_X2_add (w : Nat → Nat) (c : Nat) (M : ps_S) (a1 : Int32) (a2 : Int32) (a3 : Int32) (a4 : Int32) : Option (ps_S) :=
(zs_ast 2001 (M.1.1 2 7) (ps_sA M 2 3 (M.1.1 2 7) (vp_nar .byte (zs_i8 a1)))).bind fun M1 =>
(zs_ast 2001 (M1.1.1 2 7) (ps_sA M1 2 4 (M1.1.1 2 7) (vp_nar .short (zs_i16 a2)))).bind fun M2 =>
(zs_ast 2001 (M2.1.1 2 7) (ps_sA M2 2 5 (M2.1.1 2 7) (vp_nar .short (zs_i16 a3)))).bind fun M3 =>
(zs_ast 2001 (M3.1.1 2 7) (ps_sA M3 2 6 (M3.1.1 2 7) (vp_nar .short (zs_i16 a4)))).bind fun M4 =>
(some (ps_sF M4 2 7 ((M4.1.1 2 7) + 1))).bind fun M5 =>
some M5
set_option maxHeartbeats 4000000 in
theorem kp_X2_add (D : zs_D) (Wd : cs_W) (c : Nat) (hE : D.2.2.2 1 = .ref (Wd.1 100)) (hF : D.2.2.2 4 = hp_v (Wd.1 101)) (M : ps_S) (a1 : Int32) (a2 : Int32) (a3 : Int32) (a4 : Int32) : zs_Con D (ps_R Wd c) ps_bd zs_eV yX2_add cX2_add 5 none 0 [.ref (c + 2), .int a1, .int a2, .int a3, .int a4] M ((gp_X2_add Wd.1 c M a1 a2 a3 a4).map fun x => ((), x)) := by
  unfold gp_X2_add
  refine zs_conV (own := RX2) (nm := "add") pl_X2 rfl rfl (Nat.le_of_ble_eq_true rfl) ?_
  refine zs_lv (lv' := [(0, .ref (c + 2)), (1, .int a1), (2, .int a2), (3, .int a3), (4, .int a4)]) rfl ?_
  refine zs_aload_n (pc := 0) 0 dX2_add_0 rfl rfl ?_
  refine ps_getr (pc := 1) 2 2 3 (v := .ref (c + 5)) ⟨⟨by decide, by decide⟩, rfl⟩ zc_X2 ⟨rfl, rfl⟩ (by decide) rfl rfl q286 dX2_add_1 ?_
  refine zs_aload_n (pc := 4) 0 dX2_add_4 rfl rfl ?_
  refine ps_geti (pc := 5) 2 2 7 ⟨⟨by decide, by decide⟩, rfl⟩ zc_X2 ⟨rfl, rfl⟩ (by decide) rfl q293 dX2_add_5 ?_
  refine zs_iload_n (pc := 8) 1 dX2_add_8 rfl rfl ?_
  refine zs_i2b (pc := 9) dX2_add_9 ?_
  refine ps_fbast (pc := 10) 5 2 3 ⟨⟨by decide, by decide⟩, rfl, rfl, rfl⟩ dX2_add_10 (fun M1 => ?_)
  refine zs_aload_n (pc := 11) 0 dX2_add_11 rfl rfl ?_
  refine ps_getr (pc := 12) 2 2 4 (v := .ref (c + 6)) ⟨⟨by decide, by decide⟩, rfl⟩ zc_X2 ⟨rfl, rfl⟩ (by decide) rfl rfl q288 dX2_add_12 ?_
  refine zs_aload_n (pc := 15) 0 dX2_add_15 rfl rfl ?_
  refine ps_geti (pc := 16) 2 2 7 ⟨⟨by decide, by decide⟩, rfl⟩ zc_X2 ⟨rfl, rfl⟩ (by decide) rfl q293 dX2_add_16 ?_
  refine zs_iload_n (pc := 19) 2 dX2_add_19 rfl rfl ?_
  refine zs_i2s (pc := 20) dX2_add_20 ?_
  refine ps_fsast (pc := 21) 6 2 4 ⟨⟨by decide, by decide⟩, rfl, rfl, rfl⟩ dX2_add_21 (fun M2 => ?_)
  refine zs_aload_n (pc := 22) 0 dX2_add_22 rfl rfl ?_
  refine ps_getr (pc := 23) 2 2 5 (v := .ref (c + 7)) ⟨⟨by decide, by decide⟩, rfl⟩ zc_X2 ⟨rfl, rfl⟩ (by decide) rfl rfl q290 dX2_add_23 ?_
  refine zs_aload_n (pc := 26) 0 dX2_add_26 rfl rfl ?_
  refine ps_geti (pc := 27) 2 2 7 ⟨⟨by decide, by decide⟩, rfl⟩ zc_X2 ⟨rfl, rfl⟩ (by decide) rfl q293 dX2_add_27 ?_
  refine zs_iload_n (pc := 30) 3 dX2_add_30 rfl rfl ?_
  refine zs_i2s (pc := 31) dX2_add_31 ?_
  refine ps_fsast (pc := 32) 7 2 5 ⟨⟨by decide, by decide⟩, rfl, rfl, rfl⟩ dX2_add_32 (fun M3 => ?_)
  refine zs_aload_n (pc := 33) 0 dX2_add_33 rfl rfl ?_
  refine ps_getr (pc := 34) 2 2 6 (v := .ref (c + 8)) ⟨⟨by decide, by decide⟩, rfl⟩ zc_X2 ⟨rfl, rfl⟩ (by decide) rfl rfl q291 dX2_add_34 ?_
  refine zs_aload_n (pc := 37) 0 dX2_add_37 rfl rfl ?_
  refine ps_geti (pc := 38) 2 2 7 ⟨⟨by decide, by decide⟩, rfl⟩ zc_X2 ⟨rfl, rfl⟩ (by decide) rfl q293 dX2_add_38 ?_
  refine zs_iload (pc := 41) 4 dX2_add_41 rfl ?_
  refine zs_i2s (pc := 43) dX2_add_43 ?_
  refine ps_fsast (pc := 44) 8 2 6 ⟨⟨by decide, by decide⟩, rfl, rfl, rfl⟩ dX2_add_44 (fun M4 => ?_)
  refine zs_aload_n (pc := 45) 0 dX2_add_45 rfl rfl ?_
  refine zs_dup (pc := 46) dX2_add_46 rfl ?_
  refine ps_geti (pc := 47) 2 2 7 ⟨⟨by decide, by decide⟩, rfl⟩ zc_X2 ⟨rfl, rfl⟩ (by decide) rfl q293 dX2_add_47 ?_
  refine zs_iconst (pc := 50) (v := 1) dX2_add_50 rfl ?_
  refine zs_iadd (pc := 51) dX2_add_51 ?_
  refine ps_puti (pc := 52) 2 2 7 ⟨⟨by decide, by decide⟩, rfl⟩ zc_X2 ⟨rfl, rfl⟩ (by decide) rfl q293 rfl rfl rfl dX2_add_52 (fun M5 => ?_)
  exact zs_vret (pc := 55) dX2_add_55 rfl rfl
theorem wp_X2_word : zs_mV RX2 yX2_word cX2_word 6 (some .int) 2 := ⟨q646, qs4, q139, q647, by decide, by decide +kernel⟩
def g_X2_word_L36 (a2 : Int32) (t2 : Int32) (c : Nat) (M : ps_S) (w : Nat → Nat) (a1 : Int32) : (Int32 × Int32) → Option ((Int32 × Int32) ⊕ (Int32)) := fun t36 =>
if t36.2 < a2 then (if t36.1 = 0 then (some (Sum.inr t36.1))
else ((zs_ix 22 t2).bind fun y5 =>
(ps_ck c M (w y5) 18).bind fun _ =>
(gp_J8_charAt w c M (w y5) (t36.2 - a1)).bind fun x7 =>
(zs_ald 2000 (M.1.2 2 1) t36.2).bind fun x8 =>
(if x7 = x8 then (some 1)
else (some 0)).bind fun (p9 : Int32) =>
some (Sum.inl (p9, (t36.2 + 1)))))
else (some (Sum.inr t36.1))
def g_X2_word_L2 (c : Nat) (M : ps_S) (w : Nat → Nat) (a2 : Int32) (a1 : Int32) : (Int32) → Option ((Int32) ⊕ (Int32)) := fun t2 =>
if t2 < 22 then ((zs_ix 22 t2).bind fun y1 =>
(ps_ck c M (w y1) 18).bind fun _ =>
(gp_J8_length w c M (w y1)).bind fun x3 =>
(if x3 = (a2 - a1) then (some 1)
else (some 0)).bind fun (p4 : Int32) =>
(zs_loop 5000 (g_X2_word_L36 a2 t2 c M w a1) (p4, a1)).bind fun (r10 : Int32) =>
if r10 = 0 then (some (Sum.inl (t2 + 1)))
else (some (Sum.inr t2)))
else (some (Sum.inr (-1)))
def gp_X2_word (w : Nat → Nat) (c : Nat) (M : ps_S) (a1 : Int32) (a2 : Int32) : Option (Int32) :=
(zs_loop 5000 (g_X2_word_L2 c M w a2 a1) 0).bind fun z => some z
set_option maxHeartbeats 4000000 in
theorem kp_X2_word (D : zs_D) (Wd : cs_W) (c : Nat) (hE : D.2.2.2 1 = .ref (Wd.1 100)) (hF : D.2.2.2 4 = hp_v (Wd.1 101)) (M : ps_S) (a1 : Int32) (a2 : Int32) : zs_Con D (ps_R Wd c) ps_bd zs_eI yX2_word cX2_word 6 (some .int) 5 [.ref (c + 2), .int a1, .int a2] M ((gp_X2_word Wd.1 c M a1 a2).map fun x => (x, M)) := by
  unfold gp_X2_word
  refine zs_conR (own := RX2) (nm := "word") pl_X2 rfl rfl (Nat.le_of_ble_eq_true rfl) ?_
  refine zs_lv (lv' := [(0, .ref (c + 2)), (1, .int a1), (2, .int a2)]) rfl ?_
  refine zs_iconst (pc := 0) (v := 0) dX2_word_0 rfl ?_
  refine zs_istore_n (pc := 1) (lv' := [(0, .ref (c + 2)), (1, .int a1), (2, .int a2), (3, .int 0)]) [1, 2, 3, 0] dX2_word_1 rfl (by decide) rfl ?_
  refine zs_whileX (pc := 2) (fun (t2 : Int32) => M) (fun (t2 : Int32) => [(0, .ref (c + 2)), (1, .int a1), (2, .int a2), (3, .int t2)]) 5000 0 (fun X2 hL2 hR2 t2 => ?_)
  unfold g_X2_word_L2
  refine zs_iload_n (pc := 2) 3 dX2_word_2 rfl rfl ?_
  refine zs_aload_n (pc := 3) 0 dX2_word_3 rfl rfl ?_
  refine ps_getr (pc := 4) 2 2 0 (v := .ref (c + 3)) ⟨⟨by decide, by decide⟩, rfl⟩ zc_X2 ⟨rfl, rfl⟩ (by decide) rfl rfl q281 dX2_word_4 ?_
  refine ps_wlen (pc := 7) dX2_word_7 ?_
  refine zs_icmp_ge (pc := 8) (tgt := 96) dX2_word_8 (by decide) ?_ ?_
  · refine zs_aload_n (pc := 11) 0 dX2_word_11 rfl rfl ?_
    refine ps_getr (pc := 12) 2 2 0 (v := .ref (c + 3)) ⟨⟨by decide, by decide⟩, rfl⟩ zc_X2 ⟨rfl, rfl⟩ (by decide) rfl rfl q281 dX2_word_12 ?_
    refine zs_iload_n (pc := 15) 3 dX2_word_15 rfl rfl ?_
    refine ps_wald (pc := 16) dX2_word_16 (fun y1 => ?_)
    refine ps_ckr (pc := 17) (a := (Wd.1 y1)) (ci := 18) (fun hc2 => ?_)
    refine zs_callVrI (pc := 17) [] [] (kp_J8_length D Wd c hE hF M (Wd.1 y1)) wp_J8_length q648 zc_J8 hc2 dX2_word_17 rfl rfl (Nat.le_of_ble_eq_true rfl) (Nat.le_of_ble_eq_true rfl) (fun x3 => ?_)
    refine zs_iload_n (pc := 20) 2 dX2_word_20 rfl rfl ?_
    refine zs_iload_n (pc := 21) 1 dX2_word_21 rfl rfl ?_
    refine zs_isub (pc := 22) dX2_word_22 ?_
    refine zs_join (pc := 23) (fun (p4 : Int32) => M) 31 (fun (p4 : Int32) => [(0, .ref (c + 2)), (1, .int a1), (2, .int a2), (3, .int t2)]) (fun (p4 : Int32) => [.int p4]) (fun p4 => ?_) (fun h31 => ?_)
    · refine zs_istore (pc := 31) (lv' := [(0, .ref (c + 2)), (1, .int a1), (2, .int a2), (3, .int t2), (4, .int p4)]) [1, 2, 3, 4, 0] dX2_word_31 (by decide) rfl ?_
      refine zs_iload_n (pc := 33) 1 dX2_word_33 rfl rfl ?_
      refine zs_istore (pc := 34) (lv' := [(0, .ref (c + 2)), (1, .int a1), (2, .int a2), (3, .int t2), (4, .int p4), (5, .int a1)]) [1, 2, 3, 4, 5, 0] dX2_word_34 (by decide) rfl ?_
      refine zs_whileJ (pc := 36) (fun (t36 : Int32 × Int32) => M) (fun (t36 : Int32 × Int32) => [(0, .ref (c + 2)), (1, .int a1), (2, .int a2), (3, .int t2), (4, .int t36.1), (5, .int t36.2)]) 5000 (p4, a1) (fun (r10 : Int32) => M) 83 (fun (r10 : Int32) => [(0, .ref (c + 2)), (1, .int a1), (2, .int a2), (3, .int t2), (4, .int r10)]) [] (fun r10 => ?_) (fun X36 hL36 hE36 t36 => ?_)
      · refine zs_iload (pc := 83) 4 dX2_word_83 rfl ?_
        refine zs_if_eq (pc := 85) (tgt := 90) dX2_word_85 (by decide) ?_ ?_
        · refine zs_iinc (pc := 90) (lv' := [(0, .ref (c + 2)), (1, .int a1), (2, .int a2), (3, .int (t2 + 1)), (4, .int r10)]) 3 [1, 2, 3, 0, 4] dX2_word_90 rfl rfl (by decide) rfl ?_
          refine zs_goto (pc := 93) (tgt := 2) dX2_word_93 (by decide) ?_
          refine zs_sub (lv' := [(0, .ref (c + 2)), (1, .int a1), (2, .int a2), (3, .int (t2 + 1))]) [0, 1, 2, 3] rfl ?_
          exact hL2 (t2 + 1)
        · refine zs_iload_n (pc := 88) 3 dX2_word_88 rfl rfl ?_
          exact zs_iret (pc := 89) dX2_word_89 ((hR2 _).trans rfl) rfl rfl
      · unfold g_X2_word_L36
        refine zs_iload (pc := 36) 5 dX2_word_36 rfl ?_
        refine zs_iload_n (pc := 38) 2 dX2_word_38 rfl rfl ?_
        refine zs_icmp_ge (pc := 39) (tgt := 83) dX2_word_39 (by decide) ?_ ?_
        · refine zs_iload (pc := 42) 4 dX2_word_42 rfl ?_
          refine zs_if_eq (pc := 44) (tgt := 83) dX2_word_44 (by decide) ?_ ?_
          · refine zs_sub (lv' := [(0, .ref (c + 2)), (1, .int a1), (2, .int a2), (3, .int t2), (4, .int t36.1)]) [0, 1, 2, 3, 4] rfl ?_
            exact hE36 t36.1
          · refine zs_aload_n (pc := 47) 0 dX2_word_47 rfl rfl ?_
            refine ps_getr (pc := 48) 2 2 0 (v := .ref (c + 3)) ⟨⟨by decide, by decide⟩, rfl⟩ zc_X2 ⟨rfl, rfl⟩ (by decide) rfl rfl q281 dX2_word_48 ?_
            refine zs_iload_n (pc := 51) 3 dX2_word_51 rfl rfl ?_
            refine ps_wald (pc := 52) dX2_word_52 (fun y5 => ?_)
            refine zs_iload (pc := 53) 5 dX2_word_53 rfl ?_
            refine zs_iload_n (pc := 55) 1 dX2_word_55 rfl rfl ?_
            refine zs_isub (pc := 56) dX2_word_56 ?_
            refine ps_ckr (pc := 57) (a := (Wd.1 y5)) (ci := 18) (fun hc6 => ?_)
            refine zs_callVrI (pc := 57) [.int (t36.2 - a1)] [] (kp_J8_charAt D Wd c hE hF M (Wd.1 y5) (t36.2 - a1)) wp_J8_charAt q658 zc_J8 hc6 dX2_word_57 rfl rfl (Nat.le_of_ble_eq_true rfl) (Nat.le_of_ble_eq_true rfl) (fun x7 => ?_)
            refine zs_aload_n (pc := 60) 0 dX2_word_60 rfl rfl ?_
            refine ps_getr (pc := 61) 2 2 1 (v := .ref (c + 4)) ⟨⟨by decide, by decide⟩, rfl⟩ zc_X2 ⟨rfl, rfl⟩ (by decide) rfl rfl q282 dX2_word_61 ?_
            refine zs_iload (pc := 64) 5 dX2_word_64 rfl ?_
            refine ps_fbald (pc := 66) 4 2 1 ⟨⟨by decide, by decide⟩, rfl, rfl, rfl⟩ dX2_word_66 (fun x8 => ?_)
            refine zs_join (pc := 67) (fun (p9 : Int32) => M) 75 (fun (p9 : Int32) => [(0, .ref (c + 2)), (1, .int a1), (2, .int a2), (3, .int t2), (5, .int t36.2)]) (fun (p9 : Int32) => [.int p9]) (fun p9 => ?_) (fun h75 => ?_)
            · refine zs_istore (pc := 75) (lv' := [(0, .ref (c + 2)), (1, .int a1), (2, .int a2), (3, .int t2), (4, .int p9), (5, .int t36.2)]) [1, 2, 3, 4, 0, 5] dX2_word_75 (by decide) rfl ?_
              refine zs_iinc (pc := 77) (lv' := [(0, .ref (c + 2)), (1, .int a1), (2, .int a2), (3, .int t2), (4, .int p9), (5, .int (t36.2 + 1))]) 5 [1, 2, 3, 4, 5, 0] dX2_word_77 rfl rfl (by decide) rfl ?_
              refine zs_goto (pc := 80) (tgt := 36) dX2_word_80 (by decide) ?_
              exact hL36 (p9, (t36.2 + 1))
            · refine zs_icmp_ne (pc := 67) (tgt := 74) dX2_word_67 (by decide) ?_ ?_
              · refine zs_iconst (pc := 70) (v := 1) dX2_word_70 rfl ?_
                refine zs_goto (pc := 71) (tgt := 75) dX2_word_71 (by decide) ?_
                refine zs_sub (lv' := [(0, .ref (c + 2)), (1, .int a1), (2, .int a2), (3, .int t2), (5, .int t36.2)]) [0, 1, 2, 3, 5] rfl ?_
                exact h75 1
              · refine zs_iconst (pc := 74) (v := 0) dX2_word_74 rfl ?_
                refine zs_sub (lv' := [(0, .ref (c + 2)), (1, .int a1), (2, .int a2), (3, .int t2), (5, .int t36.2)]) [0, 1, 2, 3, 5] rfl ?_
                exact h75 0
        · refine zs_sub (lv' := [(0, .ref (c + 2)), (1, .int a1), (2, .int a2), (3, .int t2), (4, .int t36.1)]) [0, 1, 2, 3, 4] rfl ?_
          exact hE36 t36.1
    · refine zs_icmp_ne (pc := 23) (tgt := 30) dX2_word_23 (by decide) ?_ ?_
      · refine zs_iconst (pc := 26) (v := 1) dX2_word_26 rfl ?_
        refine zs_goto (pc := 27) (tgt := 31) dX2_word_27 (by decide) ?_
        exact h31 1
      · refine zs_iconst (pc := 30) (v := 0) dX2_word_30 rfl ?_
        exact h31 0
  · refine zs_iconst (pc := 96) (v := (-1)) dX2_word_96 rfl ?_
    exact zs_iret (pc := 97) dX2_word_97 ((hR2 _).trans rfl) rfl rfl
theorem wp_X2_sign : zs_mV RX2 yX2_sign cX2_sign 3 (some .int) 1 := ⟨q700, qs6, q139, q701, by decide, by decide +kernel⟩
def gp_X2_sign (w : Nat → Nat) (c : Nat) (M : ps_S) (a1 : Int32) : Option (Int32) :=
(gp_X2_at w c M a1).bind fun x1 =>
if x1 = 40 then (some x1)
else if x1 = 41 then (some x1)
else if x1 = 42 then (some x1)
else if x1 = 43 then (some x1)
else if x1 = 45 then (some x1)
else if x1 = 47 then (some x1)
else if x1 = 59 then (some x1)
else if x1 = 60 then (some x1)
else if x1 = 61 then (some x1)
else (some 0)
set_option maxHeartbeats 4000000 in
theorem kp_X2_sign (D : zs_D) (Wd : cs_W) (c : Nat) (hE : D.2.2.2 1 = .ref (Wd.1 100)) (hF : D.2.2.2 4 = hp_v (Wd.1 101)) (M : ps_S) (a1 : Int32) : zs_Con D (ps_R Wd c) ps_bd zs_eI yX2_sign cX2_sign 3 (some .int) 1 [.ref (c + 2), .int a1] M ((gp_X2_sign Wd.1 c M a1).map fun x => (x, M)) := by
  unfold gp_X2_sign
  refine zs_conR (own := RX2) (nm := "sign") pl_X2 rfl rfl (Nat.le_of_ble_eq_true rfl) ?_
  refine zs_lv (lv' := [(0, .ref (c + 2)), (1, .int a1)]) rfl ?_
  refine zs_aload_n (pc := 0) 0 dX2_sign_0 rfl rfl ?_
  refine zs_iload_n (pc := 1) 1 dX2_sign_1 rfl rfl ?_
  refine zs_callVrI (pc := 2) [.int a1] [] (kp_X2_at D Wd c hE hF M a1) wp_X2_at q640 zc_X2 ps_rcvT dX2_sign_2 rfl rfl (Nat.le_of_ble_eq_true rfl) (Nat.le_of_ble_eq_true rfl) (fun x1 => ?_)
  refine zs_istore_n (pc := 5) (lv' := [(0, .ref (c + 2)), (1, .int a1), (2, .int x1)]) [1, 2, 0] dX2_sign_5 rfl (by decide) rfl ?_
  refine zs_iload_n (pc := 6) 2 dX2_sign_6 rfl rfl ?_
  refine zs_tsw (pc := 7) [(40, 108), (41, 108), (42, 108), (43, 108), (45, 108), (47, 108), (59, 108), (60, 108), (61, 108)] 110 dX2_sign_7 (by decide +kernel) ?_
  refine zs_case ?_ ?_
  · refine zs_iload_n (pc := 108) 2 dX2_sign_108 rfl rfl ?_
    exact zs_iret (pc := 109) dX2_sign_109 rfl rfl rfl
  refine zs_case ?_ ?_
  · refine zs_iload_n (pc := 108) 2 dX2_sign_108 rfl rfl ?_
    exact zs_iret (pc := 109) dX2_sign_109 rfl rfl rfl
  refine zs_case ?_ ?_
  · refine zs_iload_n (pc := 108) 2 dX2_sign_108 rfl rfl ?_
    exact zs_iret (pc := 109) dX2_sign_109 rfl rfl rfl
  refine zs_case ?_ ?_
  · refine zs_iload_n (pc := 108) 2 dX2_sign_108 rfl rfl ?_
    exact zs_iret (pc := 109) dX2_sign_109 rfl rfl rfl
  refine zs_case ?_ ?_
  · refine zs_iload_n (pc := 108) 2 dX2_sign_108 rfl rfl ?_
    exact zs_iret (pc := 109) dX2_sign_109 rfl rfl rfl
  refine zs_case ?_ ?_
  · refine zs_iload_n (pc := 108) 2 dX2_sign_108 rfl rfl ?_
    exact zs_iret (pc := 109) dX2_sign_109 rfl rfl rfl
  refine zs_case ?_ ?_
  · refine zs_iload_n (pc := 108) 2 dX2_sign_108 rfl rfl ?_
    exact zs_iret (pc := 109) dX2_sign_109 rfl rfl rfl
  refine zs_case ?_ ?_
  · refine zs_iload_n (pc := 108) 2 dX2_sign_108 rfl rfl ?_
    exact zs_iret (pc := 109) dX2_sign_109 rfl rfl rfl
  refine zs_case ?_ ?_
  · refine zs_iload_n (pc := 108) 2 dX2_sign_108 rfl rfl ?_
    exact zs_iret (pc := 109) dX2_sign_109 rfl rfl rfl
  refine zs_dflt ?_
  refine zs_iconst (pc := 110) (v := 0) dX2_sign_110 rfl ?_
  exact zs_iret (pc := 111) dX2_sign_111 rfl rfl rfl
theorem wp_X2_read : zs_mV RX2 yX2_read cX2_read 7 none 0 := ⟨q633, q634, q139, q635, by decide, by decide +kernel⟩
def g_X2_read_L134 (w : Nat → Nat) (c : Nat) (t9 : Int32 × Int32 × ps_S) : (Int32) → Option ((Int32) ⊕ (Int32)) := fun t134 =>
(gp_X2_isDigit w c t9.2.2 t134).bind fun b13 =>
if b13 = true then (some (Sum.inl (t134 + 1)))
else (some (Sum.inr t134))
def g_X2_read_L74 (w : Nat → Nat) (c : Nat) (t9 : Int32 × Int32 × ps_S) : (Int32) → Option ((Int32) ⊕ (Int32)) := fun t74 =>
(gp_X2_isLetter w c t9.2.2 t74).bind fun b16 =>
if b16 = true then (some (Sum.inl (t74 + 1)))
else (some (Sum.inr t74))
def g_X2_read_L9 (w : Nat → Nat) (c : Nat) : (Int32 × Int32 × ps_S) → Option ((Int32 × Int32 × ps_S) ⊕ (Int32 × Int32 × ps_S)) := fun t9 =>
if t9.1 < (t9.2.2.1.1 2 2) then (if t9.2.1 = 0 then (some (Sum.inr (t9.1, t9.2.1, t9.2.2)))
else ((zs_ald 2000 (t9.2.2.1.2 2 1) t9.1).bind fun x2 =>
(some (t9.1 + 1)).bind fun x3 =>
zs_let (fun (p4 : Unit) => (some t9.2.2).bind fun M5 =>
some (Sum.inl ((t9.1 + 1), t9.2.1, M5))) fun J57 =>
if x2 = 32 then (J57 ())
else (if x2 = 9 then (J57 ())
else (if x2 = 10 then (J57 ())
else (if x2 = 13 then (J57 ())
else ((gp_X2_isLetter w c t9.2.2 t9.1).bind fun b6 =>
(if b6 = true then ((zs_loop 5000 (g_X2_read_L74 w c t9) x3).bind fun (r17 : Int32) =>
(gp_X2_word w c t9.2.2 t9.1 r17).bind fun x18 =>
(if x18 < 0 then (if 8 < (r17 - t9.1) then (some 5)
else (some 0))
else (some 3)).bind fun (p19 : Int32) =>
some (r17, p19, x18))
else ((gp_X2_isDigit w c t9.2.2 t9.1).bind fun b10 =>
if b10 = true then ((zs_loop 5000 (g_X2_read_L134 w c t9) x3).bind fun (r14 : Int32) =>
(if 4 < (r14 - t9.1) then (some 5)
else (some 1)).bind fun (p15 : Int32) =>
some (r14, p15, 0))
else ((gp_X2_sign w c t9.2.2 t9.1).bind fun x11 =>
(if x11 = 0 then (some 5)
else (some 2)).bind fun (p12 : Int32) =>
some (x3, p12, x11)))).bind fun (p7 : Int32 × Int32 × Int32) =>
(gp_X2_add w c t9.2.2 p7.2.1 t9.1 p7.1 p7.2.2).bind fun M8 =>
(if p7.2.1 = 5 then (some 0)
else (some 1)).bind fun (p9 : Int32) =>
some (Sum.inl (p7.1, p9, M8))))))))
else (some (Sum.inr (t9.1, t9.2.1, t9.2.2)))
def gp_X2_read (w : Nat → Nat) (c : Nat) (M : ps_S) : Option (ps_S) :=
(some (ps_sF M 2 7 0)).bind fun M1 =>
(zs_loop 5000 (g_X2_read_L9 w c) (0, 1, M1)).bind fun (r20 : Int32 × Int32 × ps_S) =>
if r20.2.1 = 0 then (some r20.2.2)
else ((gp_X2_add w c r20.2.2 4 r20.1 r20.1 0).bind fun M21 =>
some M21)
set_option maxHeartbeats 4000000 in
theorem kp_X2_read (D : zs_D) (Wd : cs_W) (c : Nat) (hE : D.2.2.2 1 = .ref (Wd.1 100)) (hF : D.2.2.2 4 = hp_v (Wd.1 101)) (M : ps_S) : zs_Con D (ps_R Wd c) ps_bd zs_eV yX2_read cX2_read 7 none 6 [.ref (c + 2)] M ((gp_X2_read Wd.1 c M).map fun x => ((), x)) := by
  unfold gp_X2_read
  refine zs_conV (own := RX2) (nm := "read") pl_X2 rfl rfl (Nat.le_of_ble_eq_true rfl) ?_
  refine zs_lv (lv' := [(0, .ref (c + 2))]) rfl ?_
  refine zs_aload_n (pc := 0) 0 dX2_read_0 rfl rfl ?_
  refine zs_iconst (pc := 1) (v := 0) dX2_read_1 rfl ?_
  refine ps_puti (pc := 2) 2 2 7 ⟨⟨by decide, by decide⟩, rfl⟩ zc_X2 ⟨rfl, rfl⟩ (by decide) rfl q293 rfl rfl rfl dX2_read_2 (fun M1 => ?_)
  refine zs_iconst (pc := 5) (v := 0) dX2_read_5 rfl ?_
  refine zs_istore_n (pc := 6) (lv' := [(0, .ref (c + 2)), (1, .int 0)]) [1, 0] dX2_read_6 rfl (by decide) rfl ?_
  refine zs_iconst (pc := 7) (v := 1) dX2_read_7 rfl ?_
  refine zs_istore_n (pc := 8) (lv' := [(0, .ref (c + 2)), (1, .int 0), (2, .int 1)]) [1, 2, 0] dX2_read_8 rfl (by decide) rfl ?_
  refine zs_whileJ (pc := 9) (fun (t9 : Int32 × Int32 × ps_S) => t9.2.2) (fun (t9 : Int32 × Int32 × ps_S) => [(0, .ref (c + 2)), (1, .int t9.1), (2, .int t9.2.1)]) 5000 (0, 1, M1) (fun (r20 : Int32 × Int32 × ps_S) => r20.2.2) 215 (fun (r20 : Int32 × Int32 × ps_S) => [(0, .ref (c + 2)), (1, .int r20.1), (2, .int r20.2.1)]) [] (fun r20 => ?_) (fun X9 hL9 hE9 t9 => ?_)
  · refine zs_iload_n (pc := 215) 2 dX2_read_215 rfl rfl ?_
    refine zs_if_eq (pc := 216) (tgt := 227) dX2_read_216 (by decide) ?_ ?_
    · exact zs_vret (pc := 227) dX2_read_227 rfl rfl
    · refine zs_aload_n (pc := 219) 0 dX2_read_219 rfl rfl ?_
      refine zs_iconst (pc := 220) (v := 4) dX2_read_220 rfl ?_
      refine zs_iload_n (pc := 221) 1 dX2_read_221 rfl rfl ?_
      refine zs_iload_n (pc := 222) 1 dX2_read_222 rfl rfl ?_
      refine zs_iconst (pc := 223) (v := 0) dX2_read_223 rfl ?_
      refine zs_callVv (pc := 224) [.int 4, .int r20.1, .int r20.1, .int 0] [] (kp_X2_add D Wd c hE hF r20.2.2 4 r20.1 r20.1 0) wp_X2_add q702 zc_X2 ps_rcvT dX2_read_224 rfl rfl (Nat.le_of_ble_eq_true rfl) (Nat.le_of_ble_eq_true rfl) (fun M21 => ?_)
      exact zs_vret (pc := 227) dX2_read_227 rfl rfl
  · unfold g_X2_read_L9
    refine zs_iload_n (pc := 9) 1 dX2_read_9 rfl rfl ?_
    refine zs_aload_n (pc := 10) 0 dX2_read_10 rfl rfl ?_
    refine ps_geti (pc := 11) 2 2 2 ⟨⟨by decide, by decide⟩, rfl⟩ zc_X2 ⟨rfl, rfl⟩ (by decide) rfl q284 dX2_read_11 ?_
    refine zs_icmp_ge (pc := 14) (tgt := 215) dX2_read_14 (by decide) ?_ ?_
    · refine zs_iload_n (pc := 17) 2 dX2_read_17 rfl rfl ?_
      refine zs_if_eq (pc := 18) (tgt := 215) dX2_read_18 (by decide) ?_ ?_
      · exact hE9 (t9.1, t9.2.1, t9.2.2)
      · refine zs_aload_n (pc := 21) 0 dX2_read_21 rfl rfl ?_
        refine ps_getr (pc := 22) 2 2 1 (v := .ref (c + 4)) ⟨⟨by decide, by decide⟩, rfl⟩ zc_X2 ⟨rfl, rfl⟩ (by decide) rfl rfl q282 dX2_read_22 ?_
        refine zs_iload_n (pc := 25) 1 dX2_read_25 rfl rfl ?_
        refine ps_fbald (pc := 26) 4 2 1 ⟨⟨by decide, by decide⟩, rfl, rfl, rfl⟩ dX2_read_26 (fun x2 => ?_)
        refine zs_istore_n (pc := 27) (lv' := [(0, .ref (c + 2)), (1, .int t9.1), (2, .int t9.2.1), (3, .int x2)]) [1, 2, 3, 0] dX2_read_27 rfl (by decide) rfl ?_
        refine zs_iload_n (pc := 28) 1 dX2_read_28 rfl rfl ?_
        refine zs_iconst (pc := 29) (v := 1) dX2_read_29 rfl ?_
        refine zs_iadd (pc := 30) dX2_read_30 ?_
        refine zs_nm (fun x3 => ?_)
        refine zs_istore (pc := 31) (lv' := [(0, .ref (c + 2)), (1, .int t9.1), (2, .int t9.2.1), (3, .int x2), (4, .int x3)]) [1, 2, 3, 4, 0] dX2_read_31 (by decide) rfl ?_
        refine zs_iload_n (pc := 33) 3 dX2_read_33 rfl rfl ?_
        refine zs_bipush (pc := 34) (v := 32) dX2_read_34 (by decide) ?_
        refine zs_letJ (pc := 36) (fun (p4 : Unit) => t9.2.2) 57 (fun (p4 : Unit) => [(0, .ref (c + 2)), (1, .int t9.1), (2, .int t9.2.1)]) (fun (p4 : Unit) => []) (fun p4 => ?_) (fun J57 h57 => ?_)
        · refine zs_iinc (pc := 57) (lv' := [(0, .ref (c + 2)), (1, .int (t9.1 + 1)), (2, .int t9.2.1)]) 1 [1, 0, 2] dX2_read_57 rfl rfl (by decide) rfl ?_
          refine zs_goto (pc := 60) (tgt := 9) dX2_read_60 (by decide) ?_
          refine zs_nmM (fun M5 => ?_)
          exact hL9 ((t9.1 + 1), t9.2.1, M5)
        · refine zs_icmp_eq (pc := 36) (tgt := 57) dX2_read_36 (by decide) ?_ ?_
          · refine zs_sub (lv' := [(0, .ref (c + 2)), (1, .int t9.1), (2, .int t9.2.1)]) [0, 1, 2] rfl ?_
            exact h57 ()
          · refine zs_iload_n (pc := 39) 3 dX2_read_39 rfl rfl ?_
            refine zs_bipush (pc := 40) (v := 9) dX2_read_40 (by decide) ?_
            refine zs_icmp_eq (pc := 42) (tgt := 57) dX2_read_42 (by decide) ?_ ?_
            · refine zs_sub (lv' := [(0, .ref (c + 2)), (1, .int t9.1), (2, .int t9.2.1)]) [0, 1, 2] rfl ?_
              exact h57 ()
            · refine zs_iload_n (pc := 45) 3 dX2_read_45 rfl rfl ?_
              refine zs_bipush (pc := 46) (v := 10) dX2_read_46 (by decide) ?_
              refine zs_icmp_eq (pc := 48) (tgt := 57) dX2_read_48 (by decide) ?_ ?_
              · refine zs_sub (lv' := [(0, .ref (c + 2)), (1, .int t9.1), (2, .int t9.2.1)]) [0, 1, 2] rfl ?_
                exact h57 ()
              · refine zs_iload_n (pc := 51) 3 dX2_read_51 rfl rfl ?_
                refine zs_bipush (pc := 52) (v := 13) dX2_read_52 (by decide) ?_
                refine zs_icmp_ne (pc := 54) (tgt := 63) dX2_read_54 (by decide) ?_ ?_
                · refine zs_sub (lv' := [(0, .ref (c + 2)), (1, .int t9.1), (2, .int t9.2.1)]) [0, 1, 2] rfl ?_
                  exact h57 ()
                · refine zs_iconst (pc := 63) (v := 0) dX2_read_63 rfl ?_
                  refine zs_istore (pc := 64) (lv' := [(0, .ref (c + 2)), (1, .int t9.1), (2, .int t9.2.1), (3, .int x2), (4, .int x3), (6, .int 0)]) [1, 2, 3, 4, 5, 0] dX2_read_64 (by decide) rfl ?_
                  refine zs_aload_n (pc := 66) 0 dX2_read_66 rfl rfl ?_
                  refine zs_iload_n (pc := 67) 1 dX2_read_67 rfl rfl ?_
                  refine zs_callVrB (pc := 68) [.int t9.1] [] (kp_X2_isLetter D Wd c hE hF t9.2.2 t9.1) wp_X2_isLetter q636 zc_X2 ps_rcvT dX2_read_68 rfl rfl (Nat.le_of_ble_eq_true rfl) (Nat.le_of_ble_eq_true rfl) (fun b6 => ?_)
                  refine zs_join (pc := 71) (fun (p7 : Int32 × Int32 × Int32) => t9.2.2) 186 (fun (p7 : Int32 × Int32 × Int32) => [(0, .ref (c + 2)), (1, .int t9.1), (4, .int p7.1), (5, .int p7.2.1), (6, .int p7.2.2)]) (fun (p7 : Int32 × Int32 × Int32) => []) (fun p7 => ?_) (fun h186 => ?_)
                  · refine zs_aload_n (pc := 186) 0 dX2_read_186 rfl rfl ?_
                    refine zs_iload (pc := 187) 3 dX2_read_187 rfl ?_
                    refine zs_iload_n (pc := 189) 1 dX2_read_189 rfl rfl ?_
                    refine zs_iload (pc := 190) 2 dX2_read_190 rfl ?_
                    refine zs_iload (pc := 192) 4 dX2_read_192 rfl ?_
                    refine zs_callVv (pc := 194) [.int p7.2.1, .int t9.1, .int p7.1, .int p7.2.2] [] (kp_X2_add D Wd c hE hF t9.2.2 p7.2.1 t9.1 p7.1 p7.2.2) wp_X2_add q702 zc_X2 ps_rcvT dX2_read_194 rfl rfl (Nat.le_of_ble_eq_true rfl) (Nat.le_of_ble_eq_true rfl) (fun M8 => ?_)
                    refine zs_iload (pc := 197) 3 dX2_read_197 rfl ?_
                    refine zs_iconst (pc := 199) (v := 5) dX2_read_199 rfl ?_
                    refine zs_join (pc := 200) (fun (p9 : Int32) => M8) 208 (fun (p9 : Int32) => [(0, .ref (c + 2)), (4, .int p7.1)]) (fun (p9 : Int32) => [.int p9]) (fun p9 => ?_) (fun h208 => ?_)
                    · refine zs_istore_n (pc := 208) (lv' := [(0, .ref (c + 2)), (2, .int p9), (4, .int p7.1)]) [1, 0, 2] dX2_read_208 rfl (by decide) rfl ?_
                      refine zs_iload (pc := 209) 2 dX2_read_209 rfl ?_
                      refine zs_istore_n (pc := 211) (lv' := [(0, .ref (c + 2)), (1, .int p7.1), (2, .int p9), (4, .int p7.1)]) [1, 0, 2, 3] dX2_read_211 rfl (by decide) rfl ?_
                      refine zs_goto (pc := 212) (tgt := 9) dX2_read_212 (by decide) ?_
                      refine zs_sub (lv' := [(0, .ref (c + 2)), (1, .int p7.1), (2, .int p9)]) [0, 1, 2] rfl ?_
                      exact hL9 (p7.1, p9, M8)
                    · refine zs_icmp_eq (pc := 200) (tgt := 207) dX2_read_200 (by decide) ?_ ?_
                      · refine zs_iconst (pc := 207) (v := 0) dX2_read_207 rfl ?_
                        refine zs_sub (lv' := [(0, .ref (c + 2)), (4, .int p7.1)]) [0, 2] rfl ?_
                        exact h208 0
                      · refine zs_iconst (pc := 203) (v := 1) dX2_read_203 rfl ?_
                        refine zs_goto (pc := 204) (tgt := 208) dX2_read_204 (by decide) ?_
                        refine zs_sub (lv' := [(0, .ref (c + 2)), (4, .int p7.1)]) [0, 2] rfl ?_
                        exact h208 1
                  · refine zs_if_f (pc := 71) (tgt := 126) dX2_read_71 (by decide) ?_ ?_
                    · refine zs_sub (pc := 74) (lv' := [(0, .ref (c + 2)), (1, .int t9.1), (4, .int x3)]) [0, 1, 4] rfl ?_
                      refine zs_whileJ (pc := 74) (fun (t74 : Int32) => t9.2.2) (fun (t74 : Int32) => [(0, .ref (c + 2)), (1, .int t9.1), (4, .int t74)]) 5000 x3 (fun (r17 : Int32) => t9.2.2) 89 (fun (r17 : Int32) => [(0, .ref (c + 2)), (1, .int t9.1), (4, .int r17)]) [] (fun r17 => ?_) (fun X74 hL74 hE74 t74 => ?_)
                      · refine zs_aload_n (pc := 89) 0 dX2_read_89 rfl rfl ?_
                        refine zs_iload_n (pc := 90) 1 dX2_read_90 rfl rfl ?_
                        refine zs_iload (pc := 91) 2 dX2_read_91 rfl ?_
                        refine zs_callVrI (pc := 93) [.int t9.1, .int r17] [] (kp_X2_word D Wd c hE hF t9.2.2 t9.1 r17) wp_X2_word q644 zc_X2 ps_rcvT dX2_read_93 rfl rfl (Nat.le_of_ble_eq_true rfl) (Nat.le_of_ble_eq_true rfl) (fun x18 => ?_)
                        refine zs_istore (pc := 96) (lv' := [(0, .ref (c + 2)), (1, .int t9.1), (4, .int r17), (6, .int x18)]) [1, 2, 3, 0] dX2_read_96 (by decide) rfl ?_
                        refine zs_iload (pc := 98) 3 dX2_read_98 rfl ?_
                        refine zs_join (pc := 100) (fun (p19 : Int32) => t9.2.2) 121 (fun (p19 : Int32) => [(0, .ref (c + 2)), (1, .int t9.1), (4, .int r17), (6, .int x18)]) (fun (p19 : Int32) => [.int p19]) (fun p19 => ?_) (fun h121 => ?_)
                        · refine zs_istore (pc := 121) (lv' := [(0, .ref (c + 2)), (1, .int t9.1), (4, .int r17), (5, .int p19), (6, .int x18)]) [1, 2, 3, 0, 4] dX2_read_121 (by decide) rfl ?_
                          refine zs_goto (pc := 123) (tgt := 186) dX2_read_123 (by decide) ?_
                          exact h186 (r17, p19, x18)
                        · refine zs_if_lt (pc := 100) (tgt := 107) dX2_read_100 (by decide) ?_ ?_
                          · refine zs_iload (pc := 107) 2 dX2_read_107 rfl ?_
                            refine zs_iload_n (pc := 109) 1 dX2_read_109 rfl rfl ?_
                            refine zs_isub (pc := 110) dX2_read_110 ?_
                            refine zs_bipush (pc := 111) (v := 8) dX2_read_111 (by decide) ?_
                            refine zs_icmp_le (pc := 113) (tgt := 120) dX2_read_113 (by decide) ?_ ?_
                            · refine zs_iconst (pc := 116) (v := 5) dX2_read_116 rfl ?_
                              refine zs_goto (pc := 117) (tgt := 121) dX2_read_117 (by decide) ?_
                              exact h121 5
                            · refine zs_iconst (pc := 120) (v := 0) dX2_read_120 rfl ?_
                              exact h121 0
                          · refine zs_iconst (pc := 103) (v := 3) dX2_read_103 rfl ?_
                            refine zs_goto (pc := 104) (tgt := 121) dX2_read_104 (by decide) ?_
                            exact h121 3
                      · unfold g_X2_read_L74
                        refine zs_aload_n (pc := 74) 0 dX2_read_74 rfl rfl ?_
                        refine zs_iload (pc := 75) 2 dX2_read_75 rfl ?_
                        refine zs_callVrB (pc := 77) [.int t74] [] (kp_X2_isLetter D Wd c hE hF t9.2.2 t74) wp_X2_isLetter q636 zc_X2 ps_rcvT dX2_read_77 rfl rfl (Nat.le_of_ble_eq_true rfl) (Nat.le_of_ble_eq_true rfl) (fun b16 => ?_)
                        refine zs_if_f (pc := 80) (tgt := 89) dX2_read_80 (by decide) ?_ ?_
                        · refine zs_iinc (pc := 83) (lv' := [(0, .ref (c + 2)), (1, .int t9.1), (4, .int (t74 + 1))]) 2 [1, 2, 0] dX2_read_83 rfl rfl (by decide) rfl ?_
                          refine zs_goto (pc := 86) (tgt := 74) dX2_read_86 (by decide) ?_
                          exact hL74 (t74 + 1)
                        · exact hE74 t74
                    · refine zs_aload_n (pc := 126) 0 dX2_read_126 rfl rfl ?_
                      refine zs_iload_n (pc := 127) 1 dX2_read_127 rfl rfl ?_
                      refine zs_callVrB (pc := 128) [.int t9.1] [] (kp_X2_isDigit D Wd c hE hF t9.2.2 t9.1) wp_X2_isDigit q694 zc_X2 ps_rcvT dX2_read_128 rfl rfl (Nat.le_of_ble_eq_true rfl) (Nat.le_of_ble_eq_true rfl) (fun b10 => ?_)
                      refine zs_if_f (pc := 131) (tgt := 167) dX2_read_131 (by decide) ?_ ?_
                      · refine zs_sub (pc := 134) (lv' := [(0, .ref (c + 2)), (1, .int t9.1), (4, .int x3), (6, .int 0)]) [0, 1, 4, 5] rfl ?_
                        refine zs_whileJ (pc := 134) (fun (t134 : Int32) => t9.2.2) (fun (t134 : Int32) => [(0, .ref (c + 2)), (1, .int t9.1), (4, .int t134), (6, .int 0)]) 5000 x3 (fun (r14 : Int32) => t9.2.2) 149 (fun (r14 : Int32) => [(0, .ref (c + 2)), (1, .int t9.1), (4, .int r14), (6, .int 0)]) [] (fun r14 => ?_) (fun X134 hL134 hE134 t134 => ?_)
                        · refine zs_iload (pc := 149) 2 dX2_read_149 rfl ?_
                          refine zs_iload_n (pc := 151) 1 dX2_read_151 rfl rfl ?_
                          refine zs_isub (pc := 152) dX2_read_152 ?_
                          refine zs_iconst (pc := 153) (v := 4) dX2_read_153 rfl ?_
                          refine zs_join (pc := 154) (fun (p15 : Int32) => t9.2.2) 162 (fun (p15 : Int32) => [(0, .ref (c + 2)), (1, .int t9.1), (4, .int r14), (6, .int 0)]) (fun (p15 : Int32) => [.int p15]) (fun p15 => ?_) (fun h162 => ?_)
                          · refine zs_istore (pc := 162) (lv' := [(0, .ref (c + 2)), (1, .int t9.1), (4, .int r14), (5, .int p15), (6, .int 0)]) [1, 2, 3, 0, 4] dX2_read_162 (by decide) rfl ?_
                            refine zs_goto (pc := 164) (tgt := 186) dX2_read_164 (by decide) ?_
                            exact h186 (r14, p15, 0)
                          · refine zs_icmp_le (pc := 154) (tgt := 161) dX2_read_154 (by decide) ?_ ?_
                            · refine zs_iconst (pc := 157) (v := 5) dX2_read_157 rfl ?_
                              refine zs_goto (pc := 158) (tgt := 162) dX2_read_158 (by decide) ?_
                              exact h162 5
                            · refine zs_iconst (pc := 161) (v := 1) dX2_read_161 rfl ?_
                              exact h162 1
                        · unfold g_X2_read_L134
                          refine zs_aload_n (pc := 134) 0 dX2_read_134 rfl rfl ?_
                          refine zs_iload (pc := 135) 2 dX2_read_135 rfl ?_
                          refine zs_callVrB (pc := 137) [.int t134] [] (kp_X2_isDigit D Wd c hE hF t9.2.2 t134) wp_X2_isDigit q694 zc_X2 ps_rcvT dX2_read_137 rfl rfl (Nat.le_of_ble_eq_true rfl) (Nat.le_of_ble_eq_true rfl) (fun b13 => ?_)
                          refine zs_if_f (pc := 140) (tgt := 149) dX2_read_140 (by decide) ?_ ?_
                          · refine zs_iinc (pc := 143) (lv' := [(0, .ref (c + 2)), (1, .int t9.1), (4, .int (t134 + 1)), (6, .int 0)]) 2 [1, 2, 0, 3] dX2_read_143 rfl rfl (by decide) rfl ?_
                            refine zs_goto (pc := 146) (tgt := 134) dX2_read_146 (by decide) ?_
                            exact hL134 (t134 + 1)
                          · exact hE134 t134
                      · refine zs_aload_n (pc := 167) 0 dX2_read_167 rfl rfl ?_
                        refine zs_iload_n (pc := 168) 1 dX2_read_168 rfl rfl ?_
                        refine zs_callVrI (pc := 169) [.int t9.1] [] (kp_X2_sign D Wd c hE hF t9.2.2 t9.1) wp_X2_sign q698 zc_X2 ps_rcvT dX2_read_169 rfl rfl (Nat.le_of_ble_eq_true rfl) (Nat.le_of_ble_eq_true rfl) (fun x11 => ?_)
                        refine zs_istore (pc := 172) (lv' := [(0, .ref (c + 2)), (1, .int t9.1), (2, .int t9.2.1), (3, .int x2), (4, .int x3), (6, .int x11)]) [1, 2, 3, 4, 5, 0] dX2_read_172 (by decide) rfl ?_
                        refine zs_iload (pc := 174) 5 dX2_read_174 rfl ?_
                        refine zs_join (pc := 176) (fun (p12 : Int32) => t9.2.2) 184 (fun (p12 : Int32) => [(0, .ref (c + 2)), (1, .int t9.1), (4, .int x3), (6, .int x11)]) (fun (p12 : Int32) => [.int p12]) (fun p12 => ?_) (fun h184 => ?_)
                        · refine zs_istore (pc := 184) (lv' := [(0, .ref (c + 2)), (1, .int t9.1), (4, .int x3), (5, .int p12), (6, .int x11)]) [1, 2, 3, 0, 4] dX2_read_184 (by decide) rfl ?_
                          exact h186 (x3, p12, x11)
                        · refine zs_if_ne (pc := 176) (tgt := 183) dX2_read_176 (by decide) ?_ ?_
                          · refine zs_iconst (pc := 179) (v := 5) dX2_read_179 rfl ?_
                            refine zs_goto (pc := 180) (tgt := 184) dX2_read_180 (by decide) ?_
                            refine zs_sub (lv' := [(0, .ref (c + 2)), (1, .int t9.1), (4, .int x3), (6, .int x11)]) [0, 1, 4, 5] rfl ?_
                            exact h184 5
                          · refine zs_iconst (pc := 183) (v := 2) dX2_read_183 rfl ?_
                            refine zs_sub (lv' := [(0, .ref (c + 2)), (1, .int t9.1), (4, .int x3), (6, .int x11)]) [0, 1, 4, 5] rfl ?_
                            exact h184 2
    · exact hE9 (t9.1, t9.2.1, t9.2.2)
theorem wp_X2_text : zs_mV RX2 yX2_text cX2_text 4 (some (.object "java/lang/String")) 1 := ⟨q848, q849, q139, q850, by decide, by decide +kernel⟩
def g_X2_text_L15 (a1 : Int32) (c : Nat) (z1 : Nat × ps_S) (w : Nat → Nat) : (Int32 × ps_S) → Option ((Int32 × ps_S) ⊕ (ps_S)) := fun t15 =>
(zs_ald 2001 (t15.2.1.2 2 5) a1).bind fun x4 =>
if t15.1 < x4 then ((zs_ald 2000 (t15.2.1.2 2 1) t15.1).bind fun x5 =>
(ps_ck c t15.2 z1.1 19).bind fun _ =>
(gp_J12_append w c t15.2 z1.1 (zs_u16 x5)).bind fun p7 =>
(some p7.2).bind fun M8 =>
some (Sum.inl ((t15.1 + 1), M8)))
else (some (Sum.inr t15.2))
def gp_X2_text (w : Nat → Nat) (c : Nat) (M : ps_S) (a1 : Int32) : Option (Nat × ps_S) :=
(ps_nw M (19, 4, fun k => defaultValue (tyJ12 k)) 4).bind fun z1 =>
(gp_J12_init w c z1.2 z1.1).bind fun M2 =>
(zs_ald 2001 (M2.1.2 2 4) a1).bind fun x3 =>
(zs_loop 5000 (g_X2_text_L15 a1 c z1 w) (x3, M2)).bind fun (r9 : ps_S) =>
(ps_ck c r9 z1.1 19).bind fun _ =>
(gp_J12_toString w c r9 z1.1).bind fun p11 =>
some (p11.1, p11.2)
set_option maxHeartbeats 4000000 in
theorem kp_X2_text (D : zs_D) (Wd : cs_W) (c : Nat) (hE : D.2.2.2 1 = .ref (Wd.1 100)) (hF : D.2.2.2 4 = hp_v (Wd.1 101)) (M : ps_S) (a1 : Int32) : zs_Con D (ps_R Wd c) ps_bd zs_eR yX2_text cX2_text 4 (some (.object "java/lang/String")) 6 [.ref (c + 2), .int a1] M (gp_X2_text Wd.1 c M a1) := by
  unfold gp_X2_text
  refine zs_con (own := RX2) (nm := "text") pl_X2 rfl rfl (Nat.le_of_ble_eq_true rfl) ?_
  refine zs_lv (lv' := [(0, .ref (c + 2)), (1, .int a1)]) rfl ?_
  refine ps_new (pc := 0) zc_J12 q851 q852 q163 dX2_text_0 (fun z1 => ?_)
  refine zs_dup (pc := 3) dX2_text_3 rfl ?_
  refine zs_callI0 (pc := 4) [] [.ref z1.1] (kp_J12_init D Wd c hE hF z1.2 z1.1) wp_J12_init q853 dX2_text_4 rfl rfl (Nat.le_of_ble_eq_true rfl) (Nat.le_of_ble_eq_true rfl) (fun M2 _ => ?_)
  refine zs_astore_n (pc := 7) (lv' := [(0, .ref (c + 2)), (1, .int a1), (2, .ref z1.1)]) [1, 2, 0] dX2_text_7 rfl (by decide) rfl ?_
  refine zs_aload_n (pc := 8) 0 dX2_text_8 rfl rfl ?_
  refine ps_getr (pc := 9) 2 2 4 (v := .ref (c + 6)) ⟨⟨by decide, by decide⟩, rfl⟩ zc_X2 ⟨rfl, rfl⟩ (by decide) rfl rfl q288 dX2_text_9 ?_
  refine zs_iload_n (pc := 12) 1 dX2_text_12 rfl rfl ?_
  refine ps_fsald (pc := 13) 6 2 4 ⟨⟨by decide, by decide⟩, rfl, rfl, rfl⟩ dX2_text_13 (fun x3 => ?_)
  refine zs_istore_n (pc := 14) (lv' := [(0, .ref (c + 2)), (1, .int a1), (2, .ref z1.1), (3, .int x3)]) [1, 2, 3, 0] dX2_text_14 rfl (by decide) rfl ?_
  refine zs_whileJ (pc := 15) (fun (t15 : Int32 × ps_S) => t15.2) (fun (t15 : Int32 × ps_S) => [(0, .ref (c + 2)), (1, .int a1), (2, .ref z1.1), (3, .int t15.1)]) 5000 (x3, M2) (fun (r9 : ps_S) => r9) 43 (fun (r9 : ps_S) => [(2, .ref z1.1)]) [] (fun r9 => ?_) (fun X15 hL15 hE15 t15 => ?_)
  · refine zs_aload_n (pc := 43) 0 dX2_text_43 rfl rfl ?_
    refine ps_ckr (pc := 44) (a := z1.1) (ci := 19) (fun hc10 => ?_)
    refine zs_callVwR (pc := 44) [] [] (kp_J12_toString D Wd c hE hF r9 z1.1) wp_J12_toString q956 zc_J12 hc10 dX2_text_44 rfl rfl (Nat.le_of_ble_eq_true rfl) (Nat.le_of_ble_eq_true rfl) (fun p11 => ?_)
    exact zs_aret (pc := 47) dX2_text_47 rfl rfl (Or.inl ⟨_, rfl⟩) (Or.inr ⟨_, rfl⟩)
  · unfold g_X2_text_L15
    refine zs_iload_n (pc := 15) 3 dX2_text_15 rfl rfl ?_
    refine zs_aload_n (pc := 16) 0 dX2_text_16 rfl rfl ?_
    refine ps_getr (pc := 17) 2 2 5 (v := .ref (c + 7)) ⟨⟨by decide, by decide⟩, rfl⟩ zc_X2 ⟨rfl, rfl⟩ (by decide) rfl rfl q290 dX2_text_17 ?_
    refine zs_iload_n (pc := 20) 1 dX2_text_20 rfl rfl ?_
    refine ps_fsald (pc := 21) 7 2 5 ⟨⟨by decide, by decide⟩, rfl, rfl, rfl⟩ dX2_text_21 (fun x4 => ?_)
    refine zs_icmp_ge (pc := 22) (tgt := 43) dX2_text_22 (by decide) ?_ ?_
    · refine zs_aload_n (pc := 25) 2 dX2_text_25 rfl rfl ?_
      refine zs_aload_n (pc := 26) 0 dX2_text_26 rfl rfl ?_
      refine ps_getr (pc := 27) 2 2 1 (v := .ref (c + 4)) ⟨⟨by decide, by decide⟩, rfl⟩ zc_X2 ⟨rfl, rfl⟩ (by decide) rfl rfl q282 dX2_text_27 ?_
      refine zs_iload_n (pc := 30) 3 dX2_text_30 rfl rfl ?_
      refine ps_fbald (pc := 31) 4 2 1 ⟨⟨by decide, by decide⟩, rfl, rfl, rfl⟩ dX2_text_31 (fun x5 => ?_)
      refine zs_i2c (pc := 32) dX2_text_32 ?_
      refine ps_ckr (pc := 33) (a := z1.1) (ci := 19) (fun hc6 => ?_)
      refine zs_callVwR (pc := 33) [.int (zs_u16 x5)] [] (kp_J12_append D Wd c hE hF t15.2 z1.1 (zs_u16 x5)) wp_J12_append q881 zc_J12 hc6 dX2_text_33 rfl rfl (Nat.le_of_ble_eq_true rfl) (Nat.le_of_ble_eq_true rfl) (fun p7 => ?_)
      refine zs_pop (pc := 36) dX2_text_36 rfl ?_
      refine zs_iinc (pc := 37) (lv' := [(0, .ref (c + 2)), (1, .int a1), (2, .ref z1.1), (3, .int (t15.1 + 1))]) 3 [1, 2, 3, 0] dX2_text_37 rfl rfl (by decide) rfl ?_
      refine zs_goto (pc := 40) (tgt := 15) dX2_text_40 (by decide) ?_
      refine zs_nmM (fun M8 => ?_)
      exact hL15 ((t15.1 + 1), M8)
    · refine zs_sub (lv' := [(2, .ref z1.1)]) [2] rfl ?_
      exact hE15 t15.2
theorem wp_X2_number : zs_mV RX2 yX2_number cX2_number 4 (some .int) 1 := ⟨q792, q793, q139, q794, by decide, by decide +kernel⟩
def g_X2_number_L9 (M : ps_S) (a1 : Int32) : (Int32 × Int32) → Option ((Int32 × Int32) ⊕ (Int32)) := fun t9 =>
(zs_ald 2001 (M.1.2 2 5) a1).bind fun x2 =>
if t9.2 < x2 then ((zs_ald 2000 (M.1.2 2 1) t9.2).bind fun x3 =>
(some (((10 * t9.1) + x3) - 48)).bind fun x4 =>
some (Sum.inl (x4, (t9.2 + 1))))
else (some (Sum.inr t9.1))
def gp_X2_number (w : Nat → Nat) (c : Nat) (M : ps_S) (a1 : Int32) : Option (Int32) :=
(zs_ald 2001 (M.1.2 2 4) a1).bind fun x1 =>
(zs_loop 5000 (g_X2_number_L9 M a1) (0, x1)).bind fun z => some z
set_option maxHeartbeats 4000000 in
theorem kp_X2_number (D : zs_D) (Wd : cs_W) (c : Nat) (hE : D.2.2.2 1 = .ref (Wd.1 100)) (hF : D.2.2.2 4 = hp_v (Wd.1 101)) (M : ps_S) (a1 : Int32) : zs_Con D (ps_R Wd c) ps_bd zs_eI yX2_number cX2_number 4 (some .int) 0 [.ref (c + 2), .int a1] M ((gp_X2_number Wd.1 c M a1).map fun x => (x, M)) := by
  unfold gp_X2_number
  refine zs_conR (own := RX2) (nm := "number") pl_X2 rfl rfl (Nat.le_of_ble_eq_true rfl) ?_
  refine zs_lv (lv' := [(0, .ref (c + 2)), (1, .int a1)]) rfl ?_
  refine zs_iconst (pc := 0) (v := 0) dX2_number_0 rfl ?_
  refine zs_istore_n (pc := 1) (lv' := [(0, .ref (c + 2)), (1, .int a1), (2, .int 0)]) [1, 2, 0] dX2_number_1 rfl (by decide) rfl ?_
  refine zs_aload_n (pc := 2) 0 dX2_number_2 rfl rfl ?_
  refine ps_getr (pc := 3) 2 2 4 (v := .ref (c + 6)) ⟨⟨by decide, by decide⟩, rfl⟩ zc_X2 ⟨rfl, rfl⟩ (by decide) rfl rfl q288 dX2_number_3 ?_
  refine zs_iload_n (pc := 6) 1 dX2_number_6 rfl rfl ?_
  refine ps_fsald (pc := 7) 6 2 4 ⟨⟨by decide, by decide⟩, rfl, rfl, rfl⟩ dX2_number_7 (fun x1 => ?_)
  refine zs_istore_n (pc := 8) (lv' := [(0, .ref (c + 2)), (1, .int a1), (2, .int 0), (3, .int x1)]) [1, 2, 3, 0] dX2_number_8 rfl (by decide) rfl ?_
  refine zs_whileX (pc := 9) (fun (t9 : Int32 × Int32) => M) (fun (t9 : Int32 × Int32) => [(0, .ref (c + 2)), (1, .int a1), (2, .int t9.1), (3, .int t9.2)]) 5000 (0, x1) (fun X9 hL9 hR9 t9 => ?_)
  unfold g_X2_number_L9
  refine zs_iload_n (pc := 9) 3 dX2_number_9 rfl rfl ?_
  refine zs_aload_n (pc := 10) 0 dX2_number_10 rfl rfl ?_
  refine ps_getr (pc := 11) 2 2 5 (v := .ref (c + 7)) ⟨⟨by decide, by decide⟩, rfl⟩ zc_X2 ⟨rfl, rfl⟩ (by decide) rfl rfl q290 dX2_number_11 ?_
  refine zs_iload_n (pc := 14) 1 dX2_number_14 rfl rfl ?_
  refine ps_fsald (pc := 15) 7 2 5 ⟨⟨by decide, by decide⟩, rfl, rfl, rfl⟩ dX2_number_15 (fun x2 => ?_)
  refine zs_icmp_ge (pc := 16) (tgt := 40) dX2_number_16 (by decide) ?_ ?_
  · refine zs_bipush (pc := 19) (v := 10) dX2_number_19 (by decide) ?_
    refine zs_iload_n (pc := 21) 2 dX2_number_21 rfl rfl ?_
    refine zs_imul (pc := 22) dX2_number_22 ?_
    refine zs_aload_n (pc := 23) 0 dX2_number_23 rfl rfl ?_
    refine ps_getr (pc := 24) 2 2 1 (v := .ref (c + 4)) ⟨⟨by decide, by decide⟩, rfl⟩ zc_X2 ⟨rfl, rfl⟩ (by decide) rfl rfl q282 dX2_number_24 ?_
    refine zs_iload_n (pc := 27) 3 dX2_number_27 rfl rfl ?_
    refine ps_fbald (pc := 28) 4 2 1 ⟨⟨by decide, by decide⟩, rfl, rfl, rfl⟩ dX2_number_28 (fun x3 => ?_)
    refine zs_iadd (pc := 29) dX2_number_29 ?_
    refine zs_bipush (pc := 30) (v := 48) dX2_number_30 (by decide) ?_
    refine zs_isub (pc := 32) dX2_number_32 ?_
    refine zs_nm (fun x4 => ?_)
    refine zs_istore_n (pc := 33) (lv' := [(0, .ref (c + 2)), (1, .int a1), (2, .int x4), (3, .int t9.2)]) [1, 2, 0, 3] dX2_number_33 rfl (by decide) rfl ?_
    refine zs_iinc (pc := 34) (lv' := [(0, .ref (c + 2)), (1, .int a1), (2, .int x4), (3, .int (t9.2 + 1))]) 3 [1, 2, 3, 0] dX2_number_34 rfl rfl (by decide) rfl ?_
    refine zs_goto (pc := 37) (tgt := 9) dX2_number_37 (by decide) ?_
    exact hL9 (x4, (t9.2 + 1))
  · refine zs_iload_n (pc := 40) 2 dX2_number_40 rfl rfl ?_
    exact zs_iret (pc := 41) dX2_number_41 ((hR9 _).trans rfl) rfl rfl
