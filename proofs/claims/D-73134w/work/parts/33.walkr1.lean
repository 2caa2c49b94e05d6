/-! what the reader reaches, walked: what each method computes (gp_), that its code computes it (kp_). Printed by wip/D-73134w/gen/reader.py -/
set_option maxRecDepth 100000
theorem wp_J3_init : zs_mI yJ3_init cJ3_init 1 0 := ⟨q355, q142, q356, by decide, rfl, by decide +kernel⟩
def gp_J3_init (w : Nat → Nat) (c : Nat) (M : ps_S) (a0 : Nat) : Option (ps_S) :=
some M
set_option maxHeartbeats 4000000 in
theorem kp_J3_init (D : zs_D) (Wd : cs_W) (c : Nat) (hE : D.2.2.2 1 = .ref (Wd.1 100)) (hF : D.2.2.2 4 = hp_v (Wd.1 101)) (M : ps_S) (a0 : Nat) : zs_Con D (ps_R Wd c) ps_bd zs_eV yJ3_init cJ3_init 1 none 1 [.ref a0] M ((gp_J3_init Wd.1 c M a0).map fun x => ((), x)) := by
  unfold gp_J3_init
  refine zs_conV (own := RJ3) (nm := "<init>") pl_J3 rfl rfl (Nat.le_of_ble_eq_true rfl) ?_
  refine zs_lv (lv' := [(0, .ref a0)]) rfl ?_
  refine zs_aload_n (pc := 0) 0 dJ3_init_0 rfl rfl ?_
  refine zs_objI (pc := 1) (a := a0) q357 q175 q176 dJ3_init_1 (Nat.le_of_ble_eq_true rfl) (Nat.le_of_ble_eq_true rfl) ?_
  exact zs_vret (pc := 4) dJ3_init_4 rfl rfl
theorem wp_J4_init : zs_mI yJ4_init cJ4_init 1 0 := ⟨q352, q143, q353, by decide, rfl, by decide +kernel⟩
def gp_J4_init (w : Nat → Nat) (c : Nat) (M : ps_S) (a0 : Nat) : Option (ps_S) :=
(gp_J3_init w c M a0).bind fun M1 =>
(ps_pV c M1 a0 17 3 0 (.int 0)).bind fun M2 =>
some M2
set_option maxHeartbeats 4000000 in
theorem kp_J4_init (D : zs_D) (Wd : cs_W) (c : Nat) (hE : D.2.2.2 1 = .ref (Wd.1 100)) (hF : D.2.2.2 4 = hp_v (Wd.1 101)) (M : ps_S) (a0 : Nat) : zs_Con D (ps_R Wd c) ps_bd zs_eV yJ4_init cJ4_init 1 none 2 [.ref a0] M ((gp_J4_init Wd.1 c M a0).map fun x => ((), x)) := by
  unfold gp_J4_init
  refine zs_conV (own := RJ4) (nm := "<init>") pl_J4 rfl rfl (Nat.le_of_ble_eq_true rfl) ?_
  refine zs_lv (lv' := [(0, .ref a0)]) rfl ?_
  refine zs_aload_n (pc := 0) 0 dJ4_init_0 rfl rfl ?_
  refine zs_callI0 (pc := 1) [] [] (kp_J3_init D Wd c hE hF M a0) wp_J3_init q354 dJ4_init_1 rfl rfl (Nat.le_of_ble_eq_true rfl) (Nat.le_of_ble_eq_true rfl) (fun M1 _ => ?_)
  refine zs_aload_n (pc := 4) 0 dJ4_init_4 rfl rfl ?_
  refine zs_iconst (pc := 5) (v := 0) dJ4_init_5 rfl ?_
  refine ps_put (pc := 6) (ci := 17) (k := 0) zc_J5 (by decide) q362 rfl rfl rfl dJ4_init_6 (fun M2 => ?_)
  exact zs_vret (pc := 9) dJ4_init_9 rfl rfl
theorem wp_J5_init : zs_mI yJ5_init cJ5_init 1 0 := ⟨q349, q144, q350, by decide, rfl, by decide +kernel⟩
def gp_J5_init (w : Nat → Nat) (c : Nat) (M : ps_S) (a0 : Nat) : Option (ps_S) :=
(gp_J4_init w c M a0).bind fun M1 =>
(ps_pV c M1 a0 17 3 1 (.ref (w 100))).bind fun M2 =>
some M2
set_option maxHeartbeats 4000000 in
theorem kp_J5_init (D : zs_D) (Wd : cs_W) (c : Nat) (hE : D.2.2.2 1 = .ref (Wd.1 100)) (hF : D.2.2.2 4 = hp_v (Wd.1 101)) (M : ps_S) (a0 : Nat) : zs_Con D (ps_R Wd c) ps_bd zs_eV yJ5_init cJ5_init 1 none 3 [.ref a0] M ((gp_J5_init Wd.1 c M a0).map fun x => ((), x)) := by
  unfold gp_J5_init
  refine zs_conV (own := RJ5) (nm := "<init>") pl_J5 rfl rfl (Nat.le_of_ble_eq_true rfl) ?_
  refine zs_lv (lv' := [(0, .ref a0)]) rfl ?_
  refine zs_aload_n (pc := 0) 0 dJ5_init_0 rfl rfl ?_
  refine zs_callI0 (pc := 1) [] [] (kp_J4_init D Wd c hE hF M a0) wp_J4_init q351 dJ5_init_1 rfl rfl (Nat.le_of_ble_eq_true rfl) (Nat.le_of_ble_eq_true rfl) (fun M1 _ => ?_)
  refine zs_aload_n (pc := 4) 0 dJ5_init_4 rfl rfl ?_
  refine zs_gets (pc := 5) (zs_Sv1 hE) q358 dJ5_init_5 ?_
  refine ps_put (pc := 8) (ci := 17) (k := 1) zc_J5 (by decide) q360 rfl rfl rfl dJ5_init_8 (fun M2 => ?_)
  exact zs_vret (pc := 11) dJ5_init_11 rfl rfl
theorem wp_J11_init : zs_mI yJ11_init cJ11_init 2 1 := ⟨q857, q162, q858, by decide, rfl, by decide +kernel⟩
def gp_J11_init (w : Nat → Nat) (c : Nat) (M : ps_S) (a0 : Nat) (a1 : Int32) : Option (ps_S) :=
if (1 : Int32) = 0 then (none)
else ((ps_na M 1 (defaultValue .byte) a1).bind fun z1 =>
(ps_pV c z1.2 a0 19 4 0 (.ref z1.1)).bind fun M2 =>
(ps_pV c M2 a0 19 4 1 (.int 0)).bind fun M3 =>
some M3)
set_option maxHeartbeats 4000000 in
theorem kp_J11_init (D : zs_D) (Wd : cs_W) (c : Nat) (hE : D.2.2.2 1 = .ref (Wd.1 100)) (hF : D.2.2.2 4 = hp_v (Wd.1 101)) (M : ps_S) (a0 : Nat) (a1 : Int32) : zs_Con D (ps_R Wd c) ps_bd zs_eV yJ11_init cJ11_init 2 none 1 [.ref a0, .int a1] M ((gp_J11_init Wd.1 c M a0 a1).map fun x => ((), x)) := by
  unfold gp_J11_init
  refine zs_conV (own := RJ11) (nm := "<init>") pl_J11 rfl rfl (Nat.le_of_ble_eq_true rfl) ?_
  refine zs_lv (lv' := [(0, .ref a0), (1, .int a1)]) rfl ?_
  refine zs_aload_n (pc := 0) 0 dJ11_init_0 rfl rfl ?_
  refine zs_objI (pc := 1) (a := a0) q859 q175 q176 dJ11_init_1 (Nat.le_of_ble_eq_true rfl) (Nat.le_of_ble_eq_true rfl) ?_
  refine zs_gets (pc := 4) (k := 0) rfl q860 dJ11_init_4 ?_
  refine zs_if_eq (pc := 7) (tgt := 25) dJ11_init_7 (by decide) ?_ ?_
  · exact zs_none
  · refine zs_aload_n (pc := 10) 0 dJ11_init_10 rfl rfl ?_
    refine zs_iload_n (pc := 11) 1 dJ11_init_11 rfl rfl ?_
    refine ps_newa (pc := 12) (t := 1) rfl rfl (fun _ _ => Iff.rfl) q250 (by decide) dJ11_init_12 (fun z1 => ?_)
    refine ps_put (pc := 14) (ci := 19) (k := 0) zc_J12 (by decide) q868 rfl rfl rfl dJ11_init_14 (fun M2 => ?_)
    refine zs_aload_n (pc := 17) 0 dJ11_init_17 rfl rfl ?_
    refine zs_iconst (pc := 18) (v := 0) dJ11_init_18 rfl ?_
    refine ps_put (pc := 19) (ci := 19) (k := 1) zc_J12 (by decide) q869 rfl rfl rfl dJ11_init_19 (fun M3 => ?_)
    refine zs_goto (pc := 22) (tgt := 38) dJ11_init_22 (by decide) ?_
    exact zs_vret (pc := 38) dJ11_init_38 rfl rfl
theorem wp_J12_init : zs_mI yJ12_init cJ12_init 1 0 := ⟨q854, q163, q855, by decide, rfl, by decide +kernel⟩
def gp_J12_init (w : Nat → Nat) (c : Nat) (M : ps_S) (a0 : Nat) : Option (ps_S) :=
(gp_J11_init w c M a0 16).bind fun M1 =>
some M1
set_option maxHeartbeats 4000000 in
theorem kp_J12_init (D : zs_D) (Wd : cs_W) (c : Nat) (hE : D.2.2.2 1 = .ref (Wd.1 100)) (hF : D.2.2.2 4 = hp_v (Wd.1 101)) (M : ps_S) (a0 : Nat) : zs_Con D (ps_R Wd c) ps_bd zs_eV yJ12_init cJ12_init 1 none 2 [.ref a0] M ((gp_J12_init Wd.1 c M a0).map fun x => ((), x)) := by
  unfold gp_J12_init
  refine zs_conV (own := RJ12) (nm := "<init>") pl_J12 rfl rfl (Nat.le_of_ble_eq_true rfl) ?_
  refine zs_lv (lv' := [(0, .ref a0)]) rfl ?_
  refine zs_aload_n (pc := 0) 0 dJ12_init_0 rfl rfl ?_
  refine zs_bipush (pc := 1) (v := 16) dJ12_init_1 (by decide) ?_
  refine zs_callI0 (pc := 3) [.int 16] [] (kp_J11_init D Wd c hE hF M a0 16) wp_J11_init q856 dJ12_init_3 rfl rfl (Nat.le_of_ble_eq_true rfl) (Nat.le_of_ble_eq_true rfl) (fun M1 _ => ?_)
  exact zs_vret (pc := 6) dJ12_init_6 rfl rfl
theorem wp_J11_ensureCapacityInternal_U : zs_mU RJ12 yJ11_ensureCapacityInternal yJ11_ensureCapacityInternal cJ11_ensureCapacityInternal 3 none 1 := ⟨⟨q2221, q890⟩, Or.inr ⟨rfl, rfl, rfl⟩, q890, q162, q891, by decide, ⟨_, _, _, q891⟩, by decide +kernel⟩
def gp_J11_ensureCapacityInternal (w : Nat → Nat) (c : Nat) (M : ps_S) (a0 : Nat) (a1 : Int32) : Option (Unit) :=
(ps_gR c M a0 19 4 0).bind fun y1 =>
(ps_ln c M y1 1).bind fun x2 =>
(ps_gI c M a0 19 4 1).bind fun x3 =>
(some (zs_shr x2 x3)).bind fun x4 =>
if 0 < (a1 - x4) then (none)
else (some ())
set_option maxHeartbeats 4000000 in
theorem kp_J11_ensureCapacityInternal (D : zs_D) (Wd : cs_W) (c : Nat) (hE : D.2.2.2 1 = .ref (Wd.1 100)) (hF : D.2.2.2 4 = hp_v (Wd.1 101)) (M : ps_S) (a0 : Nat) (a1 : Int32) : zs_Con D (ps_R Wd c) ps_bd zs_eV yJ11_ensureCapacityInternal cJ11_ensureCapacityInternal 3 none 0 [.ref a0, .int a1] M ((gp_J11_ensureCapacityInternal Wd.1 c M a0 a1).map fun x => (x, M)) := by
  unfold gp_J11_ensureCapacityInternal
  refine zs_conR (own := RJ11) (nm := "ensureCapacityInternal") pl_J11 rfl rfl (Nat.le_of_ble_eq_true rfl) ?_
  refine zs_lv (lv' := [(0, .ref a0), (1, .int a1)]) rfl ?_
  refine zs_aload_n (pc := 0) 0 dJ11_ensureCapacityInternal_0 rfl rfl ?_
  refine ps_dR (pc := 1) (ci := 19) (k := 0) zc_J12 (by decide) q868 dJ11_ensureCapacityInternal_1 (fun y1 => ?_)
  refine ps_len (pc := 4) (t := 1) rfl dJ11_ensureCapacityInternal_4 (fun x2 => ?_)
  refine zs_aload_n (pc := 5) 0 dJ11_ensureCapacityInternal_5 rfl rfl ?_
  refine ps_dI (pc := 6) (ci := 19) (k := 1) zc_J12 (by decide) q869 dJ11_ensureCapacityInternal_6 (fun x3 => ?_)
  refine zs_ishr (pc := 9) dJ11_ensureCapacityInternal_9 ?_
  refine zs_nm (fun x4 => ?_)
  refine zs_istore_n (pc := 10) (lv' := [(0, .ref a0), (1, .int a1), (2, .int x4)]) [1, 2, 0] dJ11_ensureCapacityInternal_10 rfl (by decide) rfl ?_
  refine zs_iload_n (pc := 11) 1 dJ11_ensureCapacityInternal_11 rfl rfl ?_
  refine zs_iload_n (pc := 12) 2 dJ11_ensureCapacityInternal_12 rfl rfl ?_
  refine zs_isub (pc := 13) dJ11_ensureCapacityInternal_13 ?_
  refine zs_if_le (pc := 14) (tgt := 38) dJ11_ensureCapacityInternal_14 (by decide) ?_ ?_
  · exact zs_none
  · exact zs_vret (pc := 38) dJ11_ensureCapacityInternal_38 rfl rfl
theorem wp_J11_isLatin1_U : zs_mU RJ12 yJ11_isLatin1 yJ11_isLatin1 cJ11_isLatin1 1 (some .boolean) 0 := ⟨⟨q925, q924⟩, Or.inl q926, q924, q162, q927, by decide, ⟨_, _, _, q927⟩, by decide +kernel⟩
def gp_J11_isLatin1 (w : Nat → Nat) (c : Nat) (M : ps_S) (a0 : Nat) : Option (Bool) :=
zs_let (fun (p1 : Unit) => some false) fun J17 =>
if (1 : Int32) = 0 then (J17 ())
else ((ps_gI c M a0 19 4 1).bind fun x2 =>
if x2 = 0 then (some true)
else (J17 ()))
set_option maxHeartbeats 4000000 in
theorem kp_J11_isLatin1 (D : zs_D) (Wd : cs_W) (c : Nat) (hE : D.2.2.2 1 = .ref (Wd.1 100)) (hF : D.2.2.2 4 = hp_v (Wd.1 101)) (M : ps_S) (a0 : Nat) : zs_Con D (ps_R Wd c) ps_bd zs_eB yJ11_isLatin1 cJ11_isLatin1 1 (some .boolean) 0 [.ref a0] M ((gp_J11_isLatin1 Wd.1 c M a0).map fun x => (x, M)) := by
  unfold gp_J11_isLatin1
  refine zs_conR (own := RJ11) (nm := "isLatin1") pl_J11 rfl rfl (Nat.le_of_ble_eq_true rfl) ?_
  refine zs_lv (lv' := [(0, .ref a0)]) rfl ?_
  refine zs_gets (pc := 0) (k := 0) rfl q860 dJ11_isLatin1_0 ?_
  refine zs_letJ (pc := 3) (fun (p1 : Unit) => M) 17 (fun (p1 : Unit) => []) (fun (p1 : Unit) => []) (fun p1 => ?_) (fun J17 h17 => ?_)
  · refine zs_iconst (pc := 17) (v := 0) dJ11_isLatin1_17 rfl ?_
    exact zs_iret (pc := 18) dJ11_isLatin1_18 rfl rfl rfl
  · refine zs_if_eq (pc := 3) (tgt := 17) dJ11_isLatin1_3 (by decide) ?_ ?_
    · refine zs_sub (lv' := []) [] rfl ?_
      exact h17 ()
    · refine zs_aload_n (pc := 6) 0 dJ11_isLatin1_6 rfl rfl ?_
      refine ps_dI (pc := 7) (ci := 19) (k := 1) zc_J12 (by decide) q869 dJ11_isLatin1_7 (fun x2 => ?_)
      refine zs_if_ne (pc := 10) (tgt := 17) dJ11_isLatin1_10 (by decide) ?_ ?_
      · refine zs_iconst (pc := 13) (v := 1) dJ11_isLatin1_13 rfl ?_
        refine zs_goto (pc := 14) (tgt := 18) dJ11_isLatin1_14 (by decide) ?_
        exact zs_iret (pc := 18) dJ11_isLatin1_18 rfl rfl rfl
      · refine zs_sub (lv' := []) [] rfl ?_
        exact h17 ()
theorem wp_J9_canEncode : zs_mS yJ9_canEncode cJ9_canEncode 1 (some .boolean) 1 := ⟨q929, q154, q930, by decide, by decide +kernel⟩
def gp_J9_canEncode (w : Nat → Nat) (c : Nat) (M : ps_S) (a0 : Int32) : Option (Bool) :=
if 255 < a0 then (some false)
else (some true)
set_option maxHeartbeats 4000000 in
theorem kp_J9_canEncode (D : zs_D) (Wd : cs_W) (c : Nat) (hE : D.2.2.2 1 = .ref (Wd.1 100)) (hF : D.2.2.2 4 = hp_v (Wd.1 101)) (M : ps_S) (a0 : Int32) : zs_Con D (ps_R Wd c) ps_bd zs_eB yJ9_canEncode cJ9_canEncode 1 (some .boolean) 0 [.int a0] M ((gp_J9_canEncode Wd.1 c M a0).map fun x => (x, M)) := by
  unfold gp_J9_canEncode
  refine zs_conR (own := RJ9) (nm := "canEncode") pl_J9 rfl rfl (Nat.le_of_ble_eq_true rfl) ?_
  refine zs_lv (lv' := [(0, .int a0)]) rfl ?_
  refine zs_iload_n (pc := 0) 0 dJ9_canEncode_0 rfl rfl ?_
  refine zs_sipush (pc := 1) (v := 255) dJ9_canEncode_1 (by decide) ?_
  refine zs_icmp_gt (pc := 4) (tgt := 11) dJ9_canEncode_4 (by decide) ?_ ?_
  · refine zs_iconst (pc := 11) (v := 0) dJ9_canEncode_11 rfl ?_
    exact zs_iret (pc := 12) dJ9_canEncode_12 rfl rfl rfl
  · refine zs_iconst (pc := 7) (v := 1) dJ9_canEncode_7 rfl ?_
    refine zs_goto (pc := 8) (tgt := 12) dJ9_canEncode_8 (by decide) ?_
    exact zs_iret (pc := 12) dJ9_canEncode_12 rfl rfl rfl
theorem wp_J11_append_P : zs_mP RJ12 yJ11_append cJ11_append 2 (some (.object "java/lang/AbstractStringBuilder")) 1 := ⟨q2220, q880, q886, q162, q887, by decide, by decide +kernel⟩
def gp_J11_append (w : Nat → Nat) (c : Nat) (M : ps_S) (a0 : Nat) (a1 : Int32) : Option (Nat × ps_S) :=
(ps_gI c M a0 19 4 3).bind fun x1 =>
(ps_ck c M a0 19).bind fun _ =>
(gp_J11_ensureCapacityInternal w c M a0 (x1 + 1)).bind fun u3 =>
(ps_ck c M a0 19).bind fun _ =>
(gp_J11_isLatin1 w c M a0).bind fun b5 =>
if b5 = true then ((gp_J9_canEncode w c M a1).bind fun b6 =>
if b6 = true then ((ps_gR c M a0 19 4 0).bind fun y7 =>
(ps_gI c M a0 19 4 3).bind fun x8 =>
(ps_pV c M a0 19 4 3 (.int (x8 + 1))).bind fun M9 =>
(ps_pA c M9 y7 1 x8 (.int (vp_nar .byte (zs_i8 a1)))).bind fun M10 =>
some (a0, M10))
else (none))
else (none)
set_option maxHeartbeats 4000000 in
theorem kp_J11_append (D : zs_D) (Wd : cs_W) (c : Nat) (hE : D.2.2.2 1 = .ref (Wd.1 100)) (hF : D.2.2.2 4 = hp_v (Wd.1 101)) (M : ps_S) (a0 : Nat) (a1 : Int32) : zs_Con D (ps_R Wd c) ps_bd zs_eR yJ11_append cJ11_append 2 (some (.object "java/lang/AbstractStringBuilder")) 1 [.ref a0, .int a1] M (gp_J11_append Wd.1 c M a0 a1) := by
  unfold gp_J11_append
  refine zs_con (own := RJ11) (nm := "append") pl_J11 rfl rfl (Nat.le_of_ble_eq_true rfl) ?_
  refine zs_lv (lv' := [(0, .ref a0), (1, .int a1)]) rfl ?_
  refine zs_aload_n (pc := 0) 0 dJ11_append_0 rfl rfl ?_
  refine zs_aload_n (pc := 1) 0 dJ11_append_1 rfl rfl ?_
  refine ps_dI (pc := 2) (ci := 19) (k := 3) zc_J12 (by decide) q871 dJ11_append_2 (fun x1 => ?_)
  refine zs_iconst (pc := 5) (v := 1) dJ11_append_5 rfl ?_
  refine zs_iadd (pc := 6) dJ11_append_6 ?_
  refine ps_ckr (pc := 7) (a := a0) (ci := 19) (fun hc2 => ?_)
  refine zs_callUrV (pc := 7) [.int (x1 + 1)] [] (kp_J11_ensureCapacityInternal D Wd c hE hF M a0 (x1 + 1)) wp_J11_ensureCapacityInternal_U q888 zc_J12 hc2 dJ11_append_7 rfl rfl (Nat.le_of_ble_eq_true rfl) (Nat.le_of_ble_eq_true rfl) (fun u3 => ?_)
  refine zs_aload_n (pc := 10) 0 dJ11_append_10 rfl rfl ?_
  refine ps_ckr (pc := 11) (a := a0) (ci := 19) (fun hc4 => ?_)
  refine zs_callUrB (pc := 11) [] [] (kp_J11_isLatin1 D Wd c hE hF M a0) wp_J11_isLatin1_U q923 zc_J12 hc4 dJ11_append_11 rfl rfl (Nat.le_of_ble_eq_true rfl) (Nat.le_of_ble_eq_true rfl) (fun b5 => ?_)
  refine zs_if_f (pc := 14) (tgt := 45) dJ11_append_14 (by decide) ?_ ?_
  · refine zs_iload_n (pc := 17) 1 dJ11_append_17 rfl rfl ?_
    refine zs_callSrB (pc := 18) [.int a1] [] (kp_J9_canEncode D Wd c hE hF M a1) wp_J9_canEncode q928 dJ11_append_18 rfl rfl (Nat.le_of_ble_eq_true rfl) (Nat.le_of_ble_eq_true rfl) (fun b6 => ?_)
    refine zs_if_f (pc := 21) (tgt := 45) dJ11_append_21 (by decide) ?_ ?_
    · refine zs_aload_n (pc := 24) 0 dJ11_append_24 rfl rfl ?_
      refine ps_dR (pc := 25) (ci := 19) (k := 0) zc_J12 (by decide) q868 dJ11_append_25 (fun y7 => ?_)
      refine zs_aload_n (pc := 28) 0 dJ11_append_28 rfl rfl ?_
      refine zs_dup (pc := 29) dJ11_append_29 rfl ?_
      refine ps_dI (pc := 30) (ci := 19) (k := 3) zc_J12 (by decide) q871 dJ11_append_30 (fun x8 => ?_)
      refine zs_dupx1 (pc := 33) dJ11_append_33 rfl rfl ?_
      refine zs_iconst (pc := 34) (v := 1) dJ11_append_34 rfl ?_
      refine zs_iadd (pc := 35) dJ11_append_35 ?_
      refine ps_put (pc := 36) (ci := 19) (k := 3) zc_J12 (by decide) q871 rfl rfl rfl dJ11_append_36 (fun M9 => ?_)
      refine zs_iload_n (pc := 39) 1 dJ11_append_39 rfl rfl ?_
      refine zs_i2b (pc := 40) dJ11_append_40 ?_
      refine ps_bast (pc := 41) dJ11_append_41 (fun M10 => ?_)
      refine zs_goto (pc := 42) (tgt := 75) dJ11_append_42 (by decide) ?_
      refine zs_aload_n (pc := 75) 0 dJ11_append_75 rfl rfl ?_
      exact zs_aret (pc := 76) dJ11_append_76 rfl rfl (Or.inl ⟨_, rfl⟩) (Or.inr ⟨_, rfl⟩)
    · exact zs_none
  · exact zs_none
theorem wp_J12_append : zs_mV RJ12 yJ12_append cJ12_append 2 (some (.object "java/lang/StringBuilder")) 1 := ⟨q882, q883, q163, q884, by decide, by decide +kernel⟩
def gp_J12_append (w : Nat → Nat) (c : Nat) (M : ps_S) (a0 : Nat) (a1 : Int32) : Option (Nat × ps_S) :=
(ps_ck c M a0 19).bind fun _ =>
(gp_J11_append w c M a0 a1).bind fun p2 =>
some (a0, p2.2)
set_option maxHeartbeats 4000000 in
theorem kp_J12_append (D : zs_D) (Wd : cs_W) (c : Nat) (hE : D.2.2.2 1 = .ref (Wd.1 100)) (hF : D.2.2.2 4 = hp_v (Wd.1 101)) (M : ps_S) (a0 : Nat) (a1 : Int32) : zs_Con D (ps_R Wd c) ps_bd zs_eR yJ12_append cJ12_append 2 (some (.object "java/lang/StringBuilder")) 2 [.ref a0, .int a1] M (gp_J12_append Wd.1 c M a0 a1) := by
  unfold gp_J12_append
  refine zs_con (own := RJ12) (nm := "append") pl_J12 rfl rfl (Nat.le_of_ble_eq_true rfl) ?_
  refine zs_lv (lv' := [(0, .ref a0), (1, .int a1)]) rfl ?_
  refine zs_aload_n (pc := 0) 0 dJ12_append_0 rfl rfl ?_
  refine zs_iload_n (pc := 1) 1 dJ12_append_1 rfl rfl ?_
  refine ps_ckr (pc := 2) (a := a0) (ci := 19) (fun hc1 => ?_)
  refine zs_callPwR (pc := 2) [.int a1] [] (kp_J11_append D Wd c hE hF M a0 a1) wp_J11_append_P q885 zc_J12 hc1 dJ12_append_2 rfl rfl (Nat.le_of_ble_eq_true rfl) (Nat.le_of_ble_eq_true rfl) (fun p2 => ?_)
  refine zs_pop (pc := 5) dJ12_append_5 rfl ?_
  refine zs_aload_n (pc := 6) 0 dJ12_append_6 rfl rfl ?_
  exact zs_aret (pc := 7) dJ12_append_7 rfl rfl (Or.inl ⟨_, rfl⟩) (Or.inr ⟨_, rfl⟩)
theorem wp_J11_getValue_U : zs_mU RJ12 yJ11_getValue yJ11_getValue cJ11_getValue 1 (some (.array .byte)) 0 := ⟨⟨q971, q970⟩, Or.inl q972, q970, q162, q973, by decide, ⟨_, _, _, q973⟩, by decide +kernel⟩
def gp_J11_getValue (w : Nat → Nat) (c : Nat) (M : ps_S) (a0 : Nat) : Option (Nat) :=
(ps_gR c M a0 19 4 0).bind fun y1 =>
some y1
set_option maxHeartbeats 4000000 in
theorem kp_J11_getValue (D : zs_D) (Wd : cs_W) (c : Nat) (hE : D.2.2.2 1 = .ref (Wd.1 100)) (hF : D.2.2.2 4 = hp_v (Wd.1 101)) (M : ps_S) (a0 : Nat) : zs_Con D (ps_R Wd c) ps_bd zs_eR yJ11_getValue cJ11_getValue 1 (some (.array .byte)) 0 [.ref a0] M ((gp_J11_getValue Wd.1 c M a0).map fun x => (x, M)) := by
  unfold gp_J11_getValue
  refine zs_conR (own := RJ11) (nm := "getValue") pl_J11 rfl rfl (Nat.le_of_ble_eq_true rfl) ?_
  refine zs_lv (lv' := [(0, .ref a0)]) rfl ?_
  refine zs_aload_n (pc := 0) 0 dJ11_getValue_0 rfl rfl ?_
  refine ps_dR (pc := 1) (ci := 19) (k := 0) zc_J12 (by decide) q868 dJ11_getValue_1 (fun y1 => ?_)
  exact zs_aret (pc := 4) dJ11_getValue_4 rfl rfl (Or.inr ⟨_, rfl⟩) (Or.inr ⟨_, rfl⟩)
theorem wp_J11_length_P : zs_mP RJ12 yJ11_length cJ11_length 1 (some .int) 0 := ⟨q976, q880, q975, q162, q981, by decide, by decide +kernel⟩
def gp_J11_length (w : Nat → Nat) (c : Nat) (M : ps_S) (a0 : Nat) : Option (Int32) :=
(ps_gI c M a0 19 4 3).bind fun x1 =>
some x1
set_option maxHeartbeats 4000000 in
theorem kp_J11_length (D : zs_D) (Wd : cs_W) (c : Nat) (hE : D.2.2.2 1 = .ref (Wd.1 100)) (hF : D.2.2.2 4 = hp_v (Wd.1 101)) (M : ps_S) (a0 : Nat) : zs_Con D (ps_R Wd c) ps_bd zs_eI yJ11_length cJ11_length 1 (some .int) 0 [.ref a0] M ((gp_J11_length Wd.1 c M a0).map fun x => (x, M)) := by
  unfold gp_J11_length
  refine zs_conR (own := RJ11) (nm := "length") pl_J11 rfl rfl (Nat.le_of_ble_eq_true rfl) ?_
  refine zs_lv (lv' := [(0, .ref a0)]) rfl ?_
  refine zs_aload_n (pc := 0) 0 dJ11_length_0 rfl rfl ?_
  refine ps_dI (pc := 1) (ci := 19) (k := 3) zc_J12 (by decide) q871 dJ11_length_1 (fun x1 => ?_)
  exact zs_iret (pc := 4) dJ11_length_4 rfl rfl rfl
theorem wp_J12_length_U : zs_mU RJ12 yJ11_length yJ12_length cJ12_length 1 (some .int) 0 := ⟨⟨q976, q975⟩, Or.inl q977, q978, q163, q979, by decide, ⟨_, _, _, q981⟩, by decide +kernel⟩
def gp_J12_length (w : Nat → Nat) (c : Nat) (M : ps_S) (a0 : Nat) : Option (Int32) :=
(ps_ck c M a0 19).bind fun _ =>
(gp_J11_length w c M a0).bind fun x2 =>
some x2
set_option maxHeartbeats 4000000 in
theorem kp_J12_length (D : zs_D) (Wd : cs_W) (c : Nat) (hE : D.2.2.2 1 = .ref (Wd.1 100)) (hF : D.2.2.2 4 = hp_v (Wd.1 101)) (M : ps_S) (a0 : Nat) : zs_Con D (ps_R Wd c) ps_bd zs_eI yJ12_length cJ12_length 1 (some .int) 1 [.ref a0] M ((gp_J12_length Wd.1 c M a0).map fun x => (x, M)) := by
  unfold gp_J12_length
  refine zs_conR (own := RJ12) (nm := "length") pl_J12 rfl rfl (Nat.le_of_ble_eq_true rfl) ?_
  refine zs_lv (lv' := [(0, .ref a0)]) rfl ?_
  refine zs_aload_n (pc := 0) 0 dJ12_length_0 rfl rfl ?_
  refine ps_ckr (pc := 1) (a := a0) (ci := 19) (fun hc1 => ?_)
  refine zs_callPrI (pc := 1) [] [] (kp_J11_length D Wd c hE hF M a0) wp_J11_length_P q980 zc_J12 hc1 dJ12_length_1 rfl rfl (Nat.le_of_ble_eq_true rfl) (Nat.le_of_ble_eq_true rfl) (fun x2 => ?_)
  exact zs_iret (pc := 4) dJ12_length_4 rfl rfl rfl
theorem wp_J15_checkLength : zs_mS yJ15_checkLength cJ15_checkLength 2 none 2 := ⟨q990, q166, q991, by decide, by decide +kernel⟩
def gp_J15_checkLength (w : Nat → Nat) (c : Nat) (M : ps_S) (a0 : Int32) (a1 : Int32) : Option (Unit) :=
if a1 < a0 then (none)
else (some ())
set_option maxHeartbeats 4000000 in
theorem kp_J15_checkLength (D : zs_D) (Wd : cs_W) (c : Nat) (hE : D.2.2.2 1 = .ref (Wd.1 100)) (hF : D.2.2.2 4 = hp_v (Wd.1 101)) (M : ps_S) (a0 : Int32) (a1 : Int32) : zs_Con D (ps_R Wd c) ps_bd zs_eV yJ15_checkLength cJ15_checkLength 2 none 0 [.int a0, .int a1] M ((gp_J15_checkLength Wd.1 c M a0 a1).map fun x => (x, M)) := by
  unfold gp_J15_checkLength
  refine zs_conR (own := RJ15) (nm := "checkLength") pl_J15 rfl rfl (Nat.le_of_ble_eq_true rfl) ?_
  refine zs_lv (lv' := [(0, .int a0), (1, .int a1)]) rfl ?_
  refine zs_iload_n (pc := 0) 1 dJ15_checkLength_0 rfl rfl ?_
  refine zs_iload_n (pc := 1) 0 dJ15_checkLength_1 rfl rfl ?_
  refine zs_icmp_ge (pc := 2) (tgt := 37) dJ15_checkLength_2 (by decide) ?_ ?_
  · exact zs_none
  · exact zs_vret (pc := 37) dJ15_checkLength_37 rfl rfl
theorem wp_J15_copyOfRangeByte : zs_mS yJ15_copyOfRangeByte cJ15_copyOfRangeByte 5 (some (.array .byte)) 3 := ⟨q987, q166, q988, by decide, by decide +kernel⟩
def gp_J15_copyOfRangeByte (w : Nat → Nat) (c : Nat) (M : ps_S) (a0 : Nat) (a2 : Int32) : Option (Nat × ps_S) :=
(gp_J15_checkLength w c M 0 a2).bind fun u1 =>
(some (a2 - 0)).bind fun x2 =>
(ps_na M 1 (defaultValue .byte) x2).bind fun z3 =>
(ps_ln c z3.2 a0 1).bind fun x4 =>
(ps_cb c z3.2 a0 z3.1 (zs_min (x4 - 0) x2)).bind fun M5 =>
some (z3.1, M5)
set_option maxHeartbeats 4000000 in
theorem kp_J15_copyOfRangeByte (D : zs_D) (Wd : cs_W) (c : Nat) (hE : D.2.2.2 1 = .ref (Wd.1 100)) (hF : D.2.2.2 4 = hp_v (Wd.1 101)) (M : ps_S) (a0 : Nat) (a2 : Int32) : zs_Con D (ps_R Wd c) ps_bd zs_eR yJ15_copyOfRangeByte cJ15_copyOfRangeByte 5 (some (.array .byte)) 1 [.ref a0, .int 0, .int a2] M (gp_J15_copyOfRangeByte Wd.1 c M a0 a2) := by
  unfold gp_J15_copyOfRangeByte
  refine zs_con (own := RJ15) (nm := "copyOfRangeByte") pl_J15 rfl rfl (Nat.le_of_ble_eq_true rfl) ?_
  refine zs_lv (lv' := [(0, .ref a0), (1, .int 0), (2, .int a2)]) rfl ?_
  refine zs_iload_n (pc := 0) 1 dJ15_copyOfRangeByte_0 rfl rfl ?_
  refine zs_iload_n (pc := 1) 2 dJ15_copyOfRangeByte_1 rfl rfl ?_
  refine zs_callSrV (pc := 2) [.int 0, .int a2] [] (kp_J15_checkLength D Wd c hE hF M 0 a2) wp_J15_checkLength q989 dJ15_copyOfRangeByte_2 rfl rfl (Nat.le_of_ble_eq_true rfl) (Nat.le_of_ble_eq_true rfl) (fun u1 => ?_)
  refine zs_iload_n (pc := 5) 2 dJ15_copyOfRangeByte_5 rfl rfl ?_
  refine zs_iload_n (pc := 6) 1 dJ15_copyOfRangeByte_6 rfl rfl ?_
  refine zs_isub (pc := 7) dJ15_copyOfRangeByte_7 ?_
  refine zs_nm (fun x2 => ?_)
  refine zs_istore_n (pc := 8) (lv' := [(0, .ref a0), (1, .int 0), (2, .int a2), (3, .int x2)]) [1, 2, 3, 0] dJ15_copyOfRangeByte_8 rfl (by decide) rfl ?_
  refine zs_iload_n (pc := 9) 3 dJ15_copyOfRangeByte_9 rfl rfl ?_
  refine ps_newa (pc := 10) (t := 1) rfl rfl (fun _ _ => Iff.rfl) q250 (by decide) dJ15_copyOfRangeByte_10 (fun z3 => ?_)
  refine zs_astore (pc := 12) (lv' := [(0, .ref a0), (1, .int 0), (2, .int a2), (3, .int x2), (4, .ref z3.1)]) [1, 2, 3, 4, 0] dJ15_copyOfRangeByte_12 (by decide) rfl ?_
  refine zs_aload_n (pc := 14) 0 dJ15_copyOfRangeByte_14 rfl rfl ?_
  refine zs_iload_n (pc := 15) 1 dJ15_copyOfRangeByte_15 rfl rfl ?_
  refine zs_aload (pc := 16) 4 dJ15_copyOfRangeByte_16 rfl ?_
  refine zs_iconst (pc := 18) (v := 0) dJ15_copyOfRangeByte_18 rfl ?_
  refine zs_aload_n (pc := 19) 0 dJ15_copyOfRangeByte_19 rfl rfl ?_
  refine ps_len (pc := 20) (t := 1) rfl dJ15_copyOfRangeByte_20 (fun x4 => ?_)
  refine zs_iload_n (pc := 21) 1 dJ15_copyOfRangeByte_21 rfl rfl ?_
  refine zs_isub (pc := 22) dJ15_copyOfRangeByte_22 ?_
  refine zs_iload_n (pc := 23) 3 dJ15_copyOfRangeByte_23 rfl rfl ?_
  refine zs_mmin (pc := 24) q917 dJ15_copyOfRangeByte_24 (Nat.le_of_ble_eq_true rfl) (Nat.le_of_ble_eq_true rfl) ?_
  refine ps_copyb (pc := 27) q920 dJ15_copyOfRangeByte_27 (Nat.le_of_ble_eq_true rfl) (Nat.le_of_ble_eq_true rfl) (fun M5 => ?_)
  refine zs_aload (pc := 30) 4 dJ15_copyOfRangeByte_30 rfl ?_
  exact zs_aret (pc := 32) dJ15_copyOfRangeByte_32 rfl rfl (Or.inr ⟨_, rfl⟩) (Or.inr ⟨_, rfl⟩)
theorem wp_J15_copyOfRange : zs_mS yJ15_copyOfRange cJ15_copyOfRange 3 (some (.array .byte)) 3 := ⟨q984, q166, q985, by decide, by decide +kernel⟩
def gp_J15_copyOfRange (w : Nat → Nat) (c : Nat) (M : ps_S) (a0 : Nat) (a2 : Int32) : Option (Nat × ps_S) :=
(if (0 : Int32) = 0 then ((ps_ln c M a0 1).bind fun x3 =>
if a2 = x3 then (none)
else (some ()))
else (some ())).bind fun (p1 : Unit) =>
(gp_J15_copyOfRangeByte w c M a0 a2).bind fun p2 =>
some (p2.1, p2.2)
set_option maxHeartbeats 4000000 in
theorem kp_J15_copyOfRange (D : zs_D) (Wd : cs_W) (c : Nat) (hE : D.2.2.2 1 = .ref (Wd.1 100)) (hF : D.2.2.2 4 = hp_v (Wd.1 101)) (M : ps_S) (a0 : Nat) (a2 : Int32) : zs_Con D (ps_R Wd c) ps_bd zs_eR yJ15_copyOfRange cJ15_copyOfRange 3 (some (.array .byte)) 2 [.ref a0, .int 0, .int a2] M (gp_J15_copyOfRange Wd.1 c M a0 a2) := by
  unfold gp_J15_copyOfRange
  refine zs_con (own := RJ15) (nm := "copyOfRange") pl_J15 rfl rfl (Nat.le_of_ble_eq_true rfl) ?_
  refine zs_lv (lv' := [(0, .ref a0), (1, .int 0), (2, .int a2)]) rfl ?_
  refine zs_iload_n (pc := 0) 1 dJ15_copyOfRange_0 rfl rfl ?_
  refine zs_join (pc := 1) (fun (p1 : Unit) => M) 10 (fun (p1 : Unit) => [(0, .ref a0), (1, .int 0), (2, .int a2)]) (fun (p1 : Unit) => []) (fun p1 => ?_) (fun h10 => ?_)
  · refine zs_aload_n (pc := 10) 0 dJ15_copyOfRange_10 rfl rfl ?_
    refine zs_iload_n (pc := 11) 1 dJ15_copyOfRange_11 rfl rfl ?_
    refine zs_iload_n (pc := 12) 2 dJ15_copyOfRange_12 rfl rfl ?_
    refine zs_callSwR (pc := 13) [.ref a0, .int 0, .int a2] [] (kp_J15_copyOfRangeByte D Wd c hE hF M a0 a2) wp_J15_copyOfRangeByte q986 dJ15_copyOfRange_13 rfl rfl (Nat.le_of_ble_eq_true rfl) (Nat.le_of_ble_eq_true rfl) (fun p2 => ?_)
    exact zs_aret (pc := 16) dJ15_copyOfRange_16 rfl rfl (Or.inr ⟨_, rfl⟩) (Or.inr ⟨_, rfl⟩)
  · refine zs_if_ne (pc := 1) (tgt := 10) dJ15_copyOfRange_1 (by decide) ?_ ?_
    · refine zs_iload_n (pc := 4) 2 dJ15_copyOfRange_4 rfl rfl ?_
      refine zs_aload_n (pc := 5) 0 dJ15_copyOfRange_5 rfl rfl ?_
      refine ps_len (pc := 6) (t := 1) rfl dJ15_copyOfRange_6 (fun x3 => ?_)
      refine zs_icmp_eq (pc := 7) (tgt := 17) dJ15_copyOfRange_7 (by decide) ?_ ?_
      · exact zs_none
      · exact h10 ()
    · exact h10 ()
theorem wp_J8_init_2 : zs_mI yJ8_init_2 cJ8_init_2 5 2 := ⟨q966, q153, q967, by decide, rfl, by decide +kernel⟩
def gp_J8_init_2 (w : Nat → Nat) (c : Nat) (M : ps_S) (a0 : Nat) (a1 : Nat) : Option (ps_S) :=
(ps_ck c M a1 19).bind fun _ =>
(gp_J11_getValue w c M a1).bind fun y2 =>
(ps_ck c M a1 19).bind fun _ =>
(gp_J12_length w c M a1).bind fun x4 =>
(ps_ck c M a1 19).bind fun _ =>
(gp_J11_isLatin1 w c M a1).bind fun b6 =>
if b6 = true then ((ps_pV c M a0 18 4 1 (.int 0)).bind fun M7 =>
(gp_J15_copyOfRange w c M7 y2 x4).bind fun p8 =>
(ps_pV c p8.2 a0 18 4 0 (.ref p8.1)).bind fun M9 =>
some M9)
else (none)
set_option maxHeartbeats 4000000 in
theorem kp_J8_init_2 (D : zs_D) (Wd : cs_W) (c : Nat) (hE : D.2.2.2 1 = .ref (Wd.1 100)) (hF : D.2.2.2 4 = hp_v (Wd.1 101)) (M : ps_S) (a0 : Nat) (a1 : Nat) : zs_Con D (ps_R Wd c) ps_bd zs_eV yJ8_init_2 cJ8_init_2 5 none 3 [.ref a0, .ref a1, .null] M ((gp_J8_init_2 Wd.1 c M a0 a1).map fun x => ((), x)) := by
  unfold gp_J8_init_2
  refine zs_conV (own := RJ8) (nm := "<init>") pl_J8 rfl rfl (Nat.le_of_ble_eq_true rfl) ?_
  refine zs_lv (lv' := [(0, .ref a0), (1, .ref a1), (2, .null)]) rfl ?_
  refine zs_aload_n (pc := 0) 0 dJ8_init_2_0 rfl rfl ?_
  refine zs_objI (pc := 1) (a := a0) q968 q175 q176 dJ8_init_2_1 (Nat.le_of_ble_eq_true rfl) (Nat.le_of_ble_eq_true rfl) ?_
  refine zs_aload_n (pc := 4) 1 dJ8_init_2_4 rfl rfl ?_
  refine ps_ckr (pc := 5) (a := a1) (ci := 19) (fun hc1 => ?_)
  refine zs_callUrR (pc := 5) [] [] (kp_J11_getValue D Wd c hE hF M a1) wp_J11_getValue_U q969 zc_J12 hc1 dJ8_init_2_5 rfl rfl (Nat.le_of_ble_eq_true rfl) (Nat.le_of_ble_eq_true rfl) (fun y2 => ?_)
  refine zs_astore_n (pc := 8) (lv' := [(0, .ref a0), (1, .ref a1), (2, .null), (3, .ref y2)]) [1, 2, 3, 0] dJ8_init_2_8 rfl (by decide) rfl ?_
  refine zs_aload_n (pc := 9) 1 dJ8_init_2_9 rfl rfl ?_
  refine ps_ckr (pc := 10) (a := a1) (ci := 19) (fun hc3 => ?_)
  refine zs_callUrI (pc := 10) [] [] (kp_J12_length D Wd c hE hF M a1) wp_J12_length_U q974 zc_J12 hc3 dJ8_init_2_10 rfl rfl (Nat.le_of_ble_eq_true rfl) (Nat.le_of_ble_eq_true rfl) (fun x4 => ?_)
  refine zs_istore (pc := 13) (lv' := [(0, .ref a0), (1, .ref a1), (2, .null), (3, .ref y2), (4, .int x4)]) [1, 2, 3, 4, 0] dJ8_init_2_13 (by decide) rfl ?_
  refine zs_aload_n (pc := 15) 1 dJ8_init_2_15 rfl rfl ?_
  refine ps_ckr (pc := 16) (a := a1) (ci := 19) (fun hc5 => ?_)
  refine zs_callUrB (pc := 16) [] [] (kp_J11_isLatin1 D Wd c hE hF M a1) wp_J11_isLatin1_U q982 zc_J12 hc5 dJ8_init_2_16 rfl rfl (Nat.le_of_ble_eq_true rfl) (Nat.le_of_ble_eq_true rfl) (fun b6 => ?_)
  refine zs_if_f (pc := 19) (tgt := 41) dJ8_init_2_19 (by decide) ?_ ?_
  · refine zs_aload_n (pc := 22) 0 dJ8_init_2_22 rfl rfl ?_
    refine zs_iconst (pc := 23) (v := 0) dJ8_init_2_23 rfl ?_
    refine ps_putF (pc := 24) (ci := 18) (k := 1) zc_J8 (by decide) q1003 rfl rfl rfl rfl rfl dJ8_init_2_24 (fun M7 => ?_)
    refine zs_aload_n (pc := 27) 0 dJ8_init_2_27 rfl rfl ?_
    refine zs_aload_n (pc := 28) 3 dJ8_init_2_28 rfl rfl ?_
    refine zs_iconst (pc := 29) (v := 0) dJ8_init_2_29 rfl ?_
    refine zs_iload (pc := 30) 4 dJ8_init_2_30 rfl ?_
    refine zs_callSwR (pc := 32) [.ref y2, .int 0, .int x4] [.ref a0] (kp_J15_copyOfRange D Wd c hE hF M7 y2 x4) wp_J15_copyOfRange q983 dJ8_init_2_32 rfl rfl (Nat.le_of_ble_eq_true rfl) (Nat.le_of_ble_eq_true rfl) (fun p8 => ?_)
    refine ps_putF (pc := 35) (ci := 18) (k := 0) zc_J8 (by decide) q1002 rfl rfl rfl rfl rfl dJ8_init_2_35 (fun M9 => ?_)
    refine zs_goto (pc := 38) (tgt := 97) dJ8_init_2_38 (by decide) ?_
    exact zs_vret (pc := 97) dJ8_init_2_97 rfl rfl
  · exact zs_none
theorem wp_J8_init : zs_mI yJ8_init cJ8_init 2 1 := ⟨q963, q153, q964, by decide, rfl, by decide +kernel⟩
def gp_J8_init (w : Nat → Nat) (c : Nat) (M : ps_S) (a0 : Nat) (a1 : Nat) : Option (ps_S) :=
(gp_J8_init_2 w c M a0 a1).bind fun M1 =>
some M1
set_option maxHeartbeats 4000000 in
theorem kp_J8_init (D : zs_D) (Wd : cs_W) (c : Nat) (hE : D.2.2.2 1 = .ref (Wd.1 100)) (hF : D.2.2.2 4 = hp_v (Wd.1 101)) (M : ps_S) (a0 : Nat) (a1 : Nat) : zs_Con D (ps_R Wd c) ps_bd zs_eV yJ8_init cJ8_init 2 none 4 [.ref a0, .ref a1] M ((gp_J8_init Wd.1 c M a0 a1).map fun x => ((), x)) := by
  unfold gp_J8_init
  refine zs_conV (own := RJ8) (nm := "<init>") pl_J8 rfl rfl (Nat.le_of_ble_eq_true rfl) ?_
  refine zs_lv (lv' := [(0, .ref a0), (1, .ref a1)]) rfl ?_
  refine zs_aload_n (pc := 0) 0 dJ8_init_0 rfl rfl ?_
  refine zs_aload_n (pc := 1) 1 dJ8_init_1 rfl rfl ?_
  refine zs_null (pc := 2) dJ8_init_2 ?_
  refine zs_callI0 (pc := 3) [.ref a1, .null] [] (kp_J8_init_2 D Wd c hE hF M a0 a1) wp_J8_init_2 q965 dJ8_init_3 rfl rfl (Nat.le_of_ble_eq_true rfl) (Nat.le_of_ble_eq_true rfl) (fun M1 _ => ?_)
  exact zs_vret (pc := 6) dJ8_init_6 rfl rfl
theorem wp_J12_toString : zs_mV RJ12 yJ12_toString cJ12_toString 1 (some (.object "java/lang/String")) 0 := ⟨q957, q958, q163, q959, by decide, by decide +kernel⟩
def gp_J12_toString (w : Nat → Nat) (c : Nat) (M : ps_S) (a0 : Nat) : Option (Nat × ps_S) :=
(ps_nw M (18, 4, fun k => defaultValue (tyJ8 k)) 4).bind fun z1 =>
(gp_J8_init w c z1.2 z1.1 a0).bind fun M2 =>
some (z1.1, M2)
set_option maxHeartbeats 4000000 in
theorem kp_J12_toString (D : zs_D) (Wd : cs_W) (c : Nat) (hE : D.2.2.2 1 = .ref (Wd.1 100)) (hF : D.2.2.2 4 = hp_v (Wd.1 101)) (M : ps_S) (a0 : Nat) : zs_Con D (ps_R Wd c) ps_bd zs_eR yJ12_toString cJ12_toString 1 (some (.object "java/lang/String")) 5 [.ref a0] M (gp_J12_toString Wd.1 c M a0) := by
  unfold gp_J12_toString
  refine zs_con (own := RJ12) (nm := "toString") pl_J12 rfl rfl (Nat.le_of_ble_eq_true rfl) ?_
  refine zs_lv (lv' := [(0, .ref a0)]) rfl ?_
  refine ps_new (pc := 0) zc_J8 q960 q961 q153 dJ12_toString_0 (fun z1 => ?_)
  refine zs_dup (pc := 3) dJ12_toString_3 rfl ?_
  refine zs_aload_n (pc := 4) 0 dJ12_toString_4 rfl rfl ?_
  refine zs_callI0 (pc := 5) [.ref a0] [.ref z1.1] (kp_J8_init D Wd c hE hF z1.2 z1.1 a0) wp_J8_init q962 dJ12_toString_5 rfl rfl (Nat.le_of_ble_eq_true rfl) (Nat.le_of_ble_eq_true rfl) (fun M2 _ => ?_)
  exact zs_aret (pc := 8) dJ12_toString_8 rfl rfl (Or.inl ⟨_, rfl⟩) (Or.inr ⟨_, rfl⟩)
theorem wp_J8_coder : zs_mV RJ8 yJ8_coder cJ8_coder 1 (some .byte) 0 := ⟨q653, q654, q153, q655, by decide, by decide +kernel⟩
def gp_J8_coder (w : Nat → Nat) (c : Nat) (M : ps_S) (a0 : Nat) : Option (Int32) :=
if (1 : Int32) = 0 then (if vp_nar .byte 1 = 1 then (some 1)
else (none))
else ((ps_gI c M a0 18 4 1).bind fun x1 =>
if vp_nar .byte x1 = x1 then (some x1)
else (none))
set_option maxHeartbeats 4000000 in
theorem kp_J8_coder (D : zs_D) (Wd : cs_W) (c : Nat) (hE : D.2.2.2 1 = .ref (Wd.1 100)) (hF : D.2.2.2 4 = hp_v (Wd.1 101)) (M : ps_S) (a0 : Nat) : zs_Con D (ps_R Wd c) ps_bd zs_eI yJ8_coder cJ8_coder 1 (some .byte) 0 [.ref a0] M ((gp_J8_coder Wd.1 c M a0).map fun x => (x, M)) := by
  unfold gp_J8_coder
  refine zs_conR (own := RJ8) (nm := "coder") pl_J8 rfl rfl (Nat.le_of_ble_eq_true rfl) ?_
  refine zs_lv (lv' := [(0, .ref a0)]) rfl ?_
  refine zs_gets (pc := 0) (k := 0) rfl q656 dJ8_coder_0 ?_
  refine zs_if_eq (pc := 3) (tgt := 13) dJ8_coder_3 (by decide) ?_ ?_
  · refine zs_iconst (pc := 13) (v := 1) dJ8_coder_13 rfl ?_
    exact zs_iretC (pc := 14) dJ8_coder_14 rfl rfl (fun _ => rfl)
  · refine zs_aload_n (pc := 6) 0 dJ8_coder_6 rfl rfl ?_
    refine ps_dI (pc := 7) (ci := 18) (k := 1) zc_J8 (by decide) q1003 dJ8_coder_7 (fun x1 => ?_)
    refine zs_goto (pc := 10) (tgt := 14) dJ8_coder_10 (by decide) ?_
    exact zs_iretC (pc := 14) dJ8_coder_14 rfl rfl (fun _ => rfl)
theorem wp_J8_length : zs_mV RJ8 yJ8_length cJ8_length 1 (some .int) 0 := ⟨q649, q650, q153, q651, by decide, by decide +kernel⟩
def gp_J8_length (w : Nat → Nat) (c : Nat) (M : ps_S) (a0 : Nat) : Option (Int32) :=
(ps_gR c M a0 18 4 0).bind fun y1 =>
(ps_ln c M y1 1).bind fun x2 =>
(ps_ck c M a0 18).bind fun _ =>
(gp_J8_coder w c M a0).bind fun x4 =>
some (zs_shr x2 x4)
set_option maxHeartbeats 4000000 in
theorem kp_J8_length (D : zs_D) (Wd : cs_W) (c : Nat) (hE : D.2.2.2 1 = .ref (Wd.1 100)) (hF : D.2.2.2 4 = hp_v (Wd.1 101)) (M : ps_S) (a0 : Nat) : zs_Con D (ps_R Wd c) ps_bd zs_eI yJ8_length cJ8_length 1 (some .int) 1 [.ref a0] M ((gp_J8_length Wd.1 c M a0).map fun x => (x, M)) := by
  unfold gp_J8_length
  refine zs_conR (own := RJ8) (nm := "length") pl_J8 rfl rfl (Nat.le_of_ble_eq_true rfl) ?_
  refine zs_lv (lv' := [(0, .ref a0)]) rfl ?_
  refine zs_aload_n (pc := 0) 0 dJ8_length_0 rfl rfl ?_
  refine ps_dR (pc := 1) (ci := 18) (k := 0) zc_J8 (by decide) q1002 dJ8_length_1 (fun y1 => ?_)
  refine ps_len (pc := 4) (t := 1) rfl dJ8_length_4 (fun x2 => ?_)
  refine zs_aload_n (pc := 5) 0 dJ8_length_5 rfl rfl ?_
  refine ps_ckr (pc := 6) (a := a0) (ci := 18) (fun hc3 => ?_)
  refine zs_callVrI (pc := 6) [] [.int x2] (kp_J8_coder D Wd c hE hF M a0) wp_J8_coder q652 zc_J8 hc3 dJ8_length_6 rfl rfl (Nat.le_of_ble_eq_true rfl) (Nat.le_of_ble_eq_true rfl) (fun x4 => ?_)
  refine zs_ishr (pc := 9) dJ8_length_9 ?_
  exact zs_iret (pc := 10) dJ8_length_10 rfl rfl rfl
theorem wp_J8_isLatin1 : zs_mV RJ8 yJ8_isLatin1 cJ8_isLatin1 1 (some .boolean) 0 := ⟨q663, q664, q153, q665, by decide, by decide +kernel⟩
def gp_J8_isLatin1 (w : Nat → Nat) (c : Nat) (M : ps_S) (a0 : Nat) : Option (Bool) :=
zs_let (fun (p1 : Unit) => some false) fun J17 =>
if (1 : Int32) = 0 then (J17 ())
else ((ps_gI c M a0 18 4 1).bind fun x2 =>
if x2 = 0 then (some true)
else (J17 ()))
set_option maxHeartbeats 4000000 in
theorem kp_J8_isLatin1 (D : zs_D) (Wd : cs_W) (c : Nat) (hE : D.2.2.2 1 = .ref (Wd.1 100)) (hF : D.2.2.2 4 = hp_v (Wd.1 101)) (M : ps_S) (a0 : Nat) : zs_Con D (ps_R Wd c) ps_bd zs_eB yJ8_isLatin1 cJ8_isLatin1 1 (some .boolean) 0 [.ref a0] M ((gp_J8_isLatin1 Wd.1 c M a0).map fun x => (x, M)) := by
  unfold gp_J8_isLatin1
  refine zs_conR (own := RJ8) (nm := "isLatin1") pl_J8 rfl rfl (Nat.le_of_ble_eq_true rfl) ?_
  refine zs_lv (lv' := [(0, .ref a0)]) rfl ?_
  refine zs_gets (pc := 0) (k := 0) rfl q656 dJ8_isLatin1_0 ?_
  refine zs_letJ (pc := 3) (fun (p1 : Unit) => M) 17 (fun (p1 : Unit) => []) (fun (p1 : Unit) => []) (fun p1 => ?_) (fun J17 h17 => ?_)
  · refine zs_iconst (pc := 17) (v := 0) dJ8_isLatin1_17 rfl ?_
    exact zs_iret (pc := 18) dJ8_isLatin1_18 rfl rfl rfl
  · refine zs_if_eq (pc := 3) (tgt := 17) dJ8_isLatin1_3 (by decide) ?_ ?_
    · refine zs_sub (lv' := []) [] rfl ?_
      exact h17 ()
    · refine zs_aload_n (pc := 6) 0 dJ8_isLatin1_6 rfl rfl ?_
      refine ps_dI (pc := 7) (ci := 18) (k := 1) zc_J8 (by decide) q1003 dJ8_isLatin1_7 (fun x2 => ?_)
      refine zs_if_ne (pc := 10) (tgt := 17) dJ8_isLatin1_10 (by decide) ?_ ?_
      · refine zs_iconst (pc := 13) (v := 1) dJ8_isLatin1_13 rfl ?_
        refine zs_goto (pc := 14) (tgt := 18) dJ8_isLatin1_14 (by decide) ?_
        exact zs_iret (pc := 18) dJ8_isLatin1_18 rfl rfl rfl
      · refine zs_sub (lv' := []) [] rfl ?_
        exact h17 ()
theorem wp_J8_checkIndex : zs_mS yJ8_checkIndex cJ8_checkIndex 2 none 2 := ⟨q670, q153, q671, by decide, by decide +kernel⟩
def gp_J8_checkIndex (w : Nat → Nat) (c : Nat) (M : ps_S) (a0 : Int32) (a1 : Int32) : Option (Unit) :=
(g_ckix a0 a1).bind fun x1 =>
some ()
set_option maxHeartbeats 4000000 in
theorem kp_J8_checkIndex (D : zs_D) (Wd : cs_W) (c : Nat) (hE : D.2.2.2 1 = .ref (Wd.1 100)) (hF : D.2.2.2 4 = hp_v (Wd.1 101)) (M : ps_S) (a0 : Int32) (a1 : Int32) : zs_Con D (ps_R Wd c) ps_bd zs_eV yJ8_checkIndex cJ8_checkIndex 2 none 2 [.int a0, .int a1] M ((gp_J8_checkIndex Wd.1 c M a0 a1).map fun x => (x, M)) := by
  unfold gp_J8_checkIndex
  refine zs_conR (own := RJ8) (nm := "checkIndex") pl_J8 rfl rfl (Nat.le_of_ble_eq_true rfl) ?_
  refine zs_lv (lv' := [(0, .int a0), (1, .int a1)]) rfl ?_
  refine zs_iload_n (pc := 0) 0 dJ8_checkIndex_0 rfl rfl ?_
  refine zs_iload_n (pc := 1) 1 dJ8_checkIndex_1 rfl rfl ?_
  refine zs_gets (pc := 2) (zs_Sv4 hF) q672 dJ8_checkIndex_2 ?_
  refine zs_callSrI (pc := 5) [.int a0, .int a1, hp_v (Wd.1 101)] [] (kp_J7_checkIndex D _ _ M a0 a1 (Wd.1 101)) kv_J7_checkIndex q674 dJ8_checkIndex_5 rfl rfl (Nat.le_of_ble_eq_true rfl) (Nat.le_of_ble_eq_true rfl) (fun x1 => ?_)
  refine zs_pop (pc := 8) dJ8_checkIndex_8 rfl ?_
  exact zs_vret (pc := 9) dJ8_checkIndex_9 rfl rfl
theorem wp_J9_charAt : zs_mS yJ9_charAt cJ9_charAt 2 (some .char) 2 := ⟨q667, q154, q668, by decide, by decide +kernel⟩
def gp_J9_charAt (w : Nat → Nat) (c : Nat) (M : ps_S) (a0 : Nat) (a1 : Int32) : Option (Int32) :=
(ps_ln c M a0 1).bind fun x1 =>
(gp_J8_checkIndex w c M a1 x1).bind fun u2 =>
(ps_aI c M a0 1 a1).bind fun x3 =>
if vp_nar .char (zs_u16 (x3 &&& 255)) = (zs_u16 (x3 &&& 255)) then (some (zs_u16 (x3 &&& 255)))
else (none)
set_option maxHeartbeats 4000000 in
theorem kp_J9_charAt (D : zs_D) (Wd : cs_W) (c : Nat) (hE : D.2.2.2 1 = .ref (Wd.1 100)) (hF : D.2.2.2 4 = hp_v (Wd.1 101)) (M : ps_S) (a0 : Nat) (a1 : Int32) : zs_Con D (ps_R Wd c) ps_bd zs_eI yJ9_charAt cJ9_charAt 2 (some .char) 3 [.ref a0, .int a1] M ((gp_J9_charAt Wd.1 c M a0 a1).map fun x => (x, M)) := by
  unfold gp_J9_charAt
  refine zs_conR (own := RJ9) (nm := "charAt") pl_J9 rfl rfl (Nat.le_of_ble_eq_true rfl) ?_
  refine zs_lv (lv' := [(0, .ref a0), (1, .int a1)]) rfl ?_
  refine zs_iload_n (pc := 0) 1 dJ9_charAt_0 rfl rfl ?_
  refine zs_aload_n (pc := 1) 0 dJ9_charAt_1 rfl rfl ?_
  refine ps_len (pc := 2) (t := 1) rfl dJ9_charAt_2 (fun x1 => ?_)
  refine zs_callSrV (pc := 3) [.int a1, .int x1] [] (kp_J8_checkIndex D Wd c hE hF M a1 x1) wp_J8_checkIndex q669 dJ9_charAt_3 rfl rfl (Nat.le_of_ble_eq_true rfl) (Nat.le_of_ble_eq_true rfl) (fun u2 => ?_)
  refine zs_aload_n (pc := 6) 0 dJ9_charAt_6 rfl rfl ?_
  refine zs_iload_n (pc := 7) 1 dJ9_charAt_7 rfl rfl ?_
  refine ps_bald (pc := 8) dJ9_charAt_8 (fun x3 => ?_)
  refine zs_sipush (pc := 9) (v := 255) dJ9_charAt_9 (by decide) ?_
  refine zs_iand (pc := 12) dJ9_charAt_12 ?_
  refine zs_i2c (pc := 13) dJ9_charAt_13 ?_
  exact zs_iretC (pc := 14) dJ9_charAt_14 rfl rfl (fun _ => rfl)
theorem wp_J8_charAt : zs_mV RJ8 yJ8_charAt cJ8_charAt 2 (some .char) 1 := ⟨q659, q660, q153, q661, by decide, by decide +kernel⟩
def gp_J8_charAt (w : Nat → Nat) (c : Nat) (M : ps_S) (a0 : Nat) (a1 : Int32) : Option (Int32) :=
(ps_ck c M a0 18).bind fun _ =>
(gp_J8_isLatin1 w c M a0).bind fun b2 =>
if b2 = true then ((ps_gR c M a0 18 4 0).bind fun y3 =>
(gp_J9_charAt w c M y3 a1).bind fun x4 =>
if vp_nar .char x4 = x4 then (some x4)
else (none))
else (none)
set_option maxHeartbeats 4000000 in
theorem kp_J8_charAt (D : zs_D) (Wd : cs_W) (c : Nat) (hE : D.2.2.2 1 = .ref (Wd.1 100)) (hF : D.2.2.2 4 = hp_v (Wd.1 101)) (M : ps_S) (a0 : Nat) (a1 : Int32) : zs_Con D (ps_R Wd c) ps_bd zs_eI yJ8_charAt cJ8_charAt 2 (some .char) 4 [.ref a0, .int a1] M ((gp_J8_charAt Wd.1 c M a0 a1).map fun x => (x, M)) := by
  unfold gp_J8_charAt
  refine zs_conR (own := RJ8) (nm := "charAt") pl_J8 rfl rfl (Nat.le_of_ble_eq_true rfl) ?_
  refine zs_lv (lv' := [(0, .ref a0), (1, .int a1)]) rfl ?_
  refine zs_aload_n (pc := 0) 0 dJ8_charAt_0 rfl rfl ?_
  refine ps_ckr (pc := 1) (a := a0) (ci := 18) (fun hc1 => ?_)
  refine zs_callVrB (pc := 1) [] [] (kp_J8_isLatin1 D Wd c hE hF M a0) wp_J8_isLatin1 q662 zc_J8 hc1 dJ8_charAt_1 rfl rfl (Nat.le_of_ble_eq_true rfl) (Nat.le_of_ble_eq_true rfl) (fun b2 => ?_)
  refine zs_if_f (pc := 4) (tgt := 16) dJ8_charAt_4 (by decide) ?_ ?_
  · refine zs_aload_n (pc := 7) 0 dJ8_charAt_7 rfl rfl ?_
    refine ps_dR (pc := 8) (ci := 18) (k := 0) zc_J8 (by decide) q1002 dJ8_charAt_8 (fun y3 => ?_)
    refine zs_iload_n (pc := 11) 1 dJ8_charAt_11 rfl rfl ?_
    refine zs_callSrI (pc := 12) [.ref y3, .int a1] [] (kp_J9_charAt D Wd c hE hF M y3 a1) wp_J9_charAt q666 dJ8_charAt_12 rfl rfl (Nat.le_of_ble_eq_true rfl) (Nat.le_of_ble_eq_true rfl) (fun x4 => ?_)
    exact zs_iretC (pc := 15) dJ8_charAt_15 rfl rfl (fun _ => rfl)
  · exact zs_none
theorem wp_J9_equals : zs_mS yJ9_equals cJ9_equals 3 (some .boolean) 2 := ⟨q1029, q154, q1030, by decide, by decide +kernel⟩
def g_J9_equals_L9 (c : Nat) (M : ps_S) (a0 : Nat) (a1 : Nat) : (Int32) → Option ((Int32) ⊕ (Bool)) := fun t9 =>
(ps_ln c M a0 1).bind fun x3 =>
if t9 < x3 then ((ps_aI c M a0 1 t9).bind fun x4 =>
(ps_aI c M a1 1 t9).bind fun x5 =>
if x4 = x5 then (some (Sum.inl (t9 + 1)))
else (some (Sum.inr false)))
else (some (Sum.inr true))
def gp_J9_equals (w : Nat → Nat) (c : Nat) (M : ps_S) (a0 : Nat) (a1 : Nat) : Option (Bool) :=
(ps_ln c M a0 1).bind fun x1 =>
(ps_ln c M a1 1).bind fun x2 =>
if x1 = x2 then ((zs_loop 5000 (g_J9_equals_L9 c M a0 a1) 0).bind fun z => some z)
else (some false)
set_option maxHeartbeats 4000000 in
theorem kp_J9_equals (D : zs_D) (Wd : cs_W) (c : Nat) (hE : D.2.2.2 1 = .ref (Wd.1 100)) (hF : D.2.2.2 4 = hp_v (Wd.1 101)) (M : ps_S) (a0 : Nat) (a1 : Nat) : zs_Con D (ps_R Wd c) ps_bd zs_eB yJ9_equals cJ9_equals 3 (some .boolean) 0 [.ref a0, .ref a1] M ((gp_J9_equals Wd.1 c M a0 a1).map fun x => (x, M)) := by
  unfold gp_J9_equals
  refine zs_conR (own := RJ9) (nm := "equals") pl_J9 rfl rfl (Nat.le_of_ble_eq_true rfl) ?_
  refine zs_lv (lv' := [(0, .ref a0), (1, .ref a1)]) rfl ?_
  refine zs_aload_n (pc := 0) 0 dJ9_equals_0 rfl rfl ?_
  refine ps_len (pc := 1) (t := 1) rfl dJ9_equals_1 (fun x1 => ?_)
  refine zs_aload_n (pc := 2) 1 dJ9_equals_2 rfl rfl ?_
  refine ps_len (pc := 3) (t := 1) rfl dJ9_equals_3 (fun x2 => ?_)
  refine zs_icmp_ne (pc := 4) (tgt := 34) dJ9_equals_4 (by decide) ?_ ?_
  · refine zs_iconst (pc := 7) (v := 0) dJ9_equals_7 rfl ?_
    refine zs_istore_n (pc := 8) (lv' := [(0, .ref a0), (1, .ref a1), (2, .int 0)]) [1, 2, 0] dJ9_equals_8 rfl (by decide) rfl ?_
    refine zs_whileX (pc := 9) (fun (t9 : Int32) => M) (fun (t9 : Int32) => [(0, .ref a0), (1, .ref a1), (2, .int t9)]) 5000 0 (fun X9 hL9 hR9 t9 => ?_)
    unfold g_J9_equals_L9
    refine zs_iload_n (pc := 9) 2 dJ9_equals_9 rfl rfl ?_
    refine zs_aload_n (pc := 10) 0 dJ9_equals_10 rfl rfl ?_
    refine ps_len (pc := 11) (t := 1) rfl dJ9_equals_11 (fun x3 => ?_)
    refine zs_icmp_ge (pc := 12) (tgt := 32) dJ9_equals_12 (by decide) ?_ ?_
    · refine zs_aload_n (pc := 15) 0 dJ9_equals_15 rfl rfl ?_
      refine zs_iload_n (pc := 16) 2 dJ9_equals_16 rfl rfl ?_
      refine ps_bald (pc := 17) dJ9_equals_17 (fun x4 => ?_)
      refine zs_aload_n (pc := 18) 1 dJ9_equals_18 rfl rfl ?_
      refine zs_iload_n (pc := 19) 2 dJ9_equals_19 rfl rfl ?_
      refine ps_bald (pc := 20) dJ9_equals_20 (fun x5 => ?_)
      refine zs_icmp_eq (pc := 21) (tgt := 26) dJ9_equals_21 (by decide) ?_ ?_
      · refine zs_iinc (pc := 26) (lv' := [(0, .ref a0), (1, .ref a1), (2, .int (t9 + 1))]) 2 [1, 2, 0] dJ9_equals_26 rfl rfl (by decide) rfl ?_
        refine zs_goto (pc := 29) (tgt := 9) dJ9_equals_29 (by decide) ?_
        exact hL9 (t9 + 1)
      · refine zs_iconst (pc := 24) (v := 0) dJ9_equals_24 rfl ?_
        exact zs_iret (pc := 25) dJ9_equals_25 ((hR9 _).trans rfl) rfl rfl
    · refine zs_iconst (pc := 32) (v := 1) dJ9_equals_32 rfl ?_
      exact zs_iret (pc := 33) dJ9_equals_33 ((hR9 _).trans rfl) rfl rfl
  · refine zs_iconst (pc := 34) (v := 0) dJ9_equals_34 rfl ?_
    exact zs_iret (pc := 35) dJ9_equals_35 rfl rfl rfl
theorem wp_J8_equals : zs_mV RJ8 yJ8_equals cJ8_equals 3 (some .boolean) 1 := ⟨q1024, q1025, q153, q1026, by decide, by decide +kernel⟩
def gp_J8_equals (w : Nat → Nat) (c : Nat) (M : ps_S) (a0 : Nat) (a1 : Nat) : Option (Bool) :=
if a0 = a1 then (some true)
else ((ps_ck c M a1 18).bind fun _ =>
zs_let (fun (p2 : Unit) => some false) fun J54 =>
if (1 : Int32) = 0 then (J54 ())
else ((ps_ck c M a1 18).bind fun _ =>
zs_let (fun (p4 : Unit) => (ps_gR c M a0 18 4 0).bind fun y5 =>
(ps_gR c M a1 18 4 0).bind fun y6 =>
(gp_J9_equals w c M y5 y6).bind fun b7 =>
if b7 = true then (some true)
else (J54 ())) fun J36 =>
if (1 : Int32) = 0 then (J36 ())
else ((ps_gI c M a0 18 4 1).bind fun x8 =>
(ps_gI c M a1 18 4 1).bind fun x9 =>
if x8 = x9 then (J36 ())
else (J54 ()))))
set_option maxHeartbeats 4000000 in
theorem kp_J8_equals (D : zs_D) (Wd : cs_W) (c : Nat) (hE : D.2.2.2 1 = .ref (Wd.1 100)) (hF : D.2.2.2 4 = hp_v (Wd.1 101)) (M : ps_S) (a0 : Nat) (a1 : Nat) : zs_Con D (ps_R Wd c) ps_bd zs_eB yJ8_equals cJ8_equals 3 (some .boolean) 1 [.ref a0, .ref a1] M ((gp_J8_equals Wd.1 c M a0 a1).map fun x => (x, M)) := by
  unfold gp_J8_equals
  refine zs_conR (own := RJ8) (nm := "equals") pl_J8 rfl rfl (Nat.le_of_ble_eq_true rfl) ?_
  refine zs_lv (lv' := [(0, .ref a0), (1, .ref a1)]) rfl ?_
  refine zs_aload_n (pc := 0) 0 dJ8_equals_0 rfl rfl ?_
  refine zs_aload_n (pc := 1) 1 dJ8_equals_1 rfl rfl ?_
  refine zs_acmp_ne (pc := 2) (tgt := 7) dJ8_equals_2 (by decide) ?_ ?_
  · refine zs_iconst (pc := 5) (v := 1) dJ8_equals_5 rfl ?_
    exact zs_iret (pc := 6) dJ8_equals_6 rfl rfl rfl
  · refine zs_aload_n (pc := 7) 1 dJ8_equals_7 rfl rfl ?_
    refine ps_ckr (pc := 8) (a := a1) (fun hc1 => ?_)
    refine zs_instS (pc := 8) zc_J8 q1027 hc1 dJ8_equals_8 ?_
    refine zs_letJ (pc := 11) (fun (p2 : Unit) => M) 54 (fun (p2 : Unit) => []) (fun (p2 : Unit) => []) (fun p2 => ?_) (fun J54 h54 => ?_)
    · refine zs_iconst (pc := 54) (v := 0) dJ8_equals_54 rfl ?_
      exact zs_iret (pc := 55) dJ8_equals_55 rfl rfl rfl
    · refine zs_if_eq (pc := 11) (tgt := 54) dJ8_equals_11 (by decide) ?_ ?_
      · refine zs_sub (lv' := []) [] rfl ?_
        exact h54 ()
      · refine zs_aload_n (pc := 14) 1 dJ8_equals_14 rfl rfl ?_
        refine ps_ckr (pc := 15) (a := a1) (fun hc3 => ?_)
        refine zs_castS (pc := 15) zc_J8 q1027 hc3 dJ8_equals_15 ?_
        refine zs_astore_n (pc := 18) (lv' := [(0, .ref a0), (1, .ref a1), (2, .ref a1)]) [1, 2, 0] dJ8_equals_18 rfl (by decide) rfl ?_
        refine zs_gets (pc := 19) (k := 0) rfl q656 dJ8_equals_19 ?_
        refine zs_letJ (pc := 22) (fun (p4 : Unit) => M) 36 (fun (p4 : Unit) => [(0, .ref a0), (2, .ref a1)]) (fun (p4 : Unit) => []) (fun p4 => ?_) (fun J36 h36 => ?_)
        · refine zs_aload_n (pc := 36) 0 dJ8_equals_36 rfl rfl ?_
          refine ps_dR (pc := 37) (ci := 18) (k := 0) zc_J8 (by decide) q1002 dJ8_equals_37 (fun y5 => ?_)
          refine zs_aload_n (pc := 40) 1 dJ8_equals_40 rfl rfl ?_
          refine ps_dR (pc := 41) (ci := 18) (k := 0) zc_J8 (by decide) q1002 dJ8_equals_41 (fun y6 => ?_)
          refine zs_callSrB (pc := 44) [.ref y5, .ref y6] [] (kp_J9_equals D Wd c hE hF M y5 y6) wp_J9_equals q1028 dJ8_equals_44 rfl rfl (Nat.le_of_ble_eq_true rfl) (Nat.le_of_ble_eq_true rfl) (fun b7 => ?_)
          refine zs_if_f (pc := 47) (tgt := 54) dJ8_equals_47 (by decide) ?_ ?_
          · refine zs_iconst (pc := 50) (v := 1) dJ8_equals_50 rfl ?_
            refine zs_goto (pc := 51) (tgt := 55) dJ8_equals_51 (by decide) ?_
            exact zs_iret (pc := 55) dJ8_equals_55 rfl rfl rfl
          · refine zs_sub (lv' := []) [] rfl ?_
            exact h54 ()
        · refine zs_if_eq (pc := 22) (tgt := 36) dJ8_equals_22 (by decide) ?_ ?_
          · refine zs_sub (lv' := [(0, .ref a0), (2, .ref a1)]) [0, 2] rfl ?_
            exact h36 ()
          · refine zs_aload_n (pc := 25) 0 dJ8_equals_25 rfl rfl ?_
            refine ps_dI (pc := 26) (ci := 18) (k := 1) zc_J8 (by decide) q1003 dJ8_equals_26 (fun x8 => ?_)
            refine zs_aload_n (pc := 29) 2 dJ8_equals_29 rfl rfl ?_
            refine ps_dI (pc := 30) (ci := 18) (k := 1) zc_J8 (by decide) q1003 dJ8_equals_30 (fun x9 => ?_)
            refine zs_icmp_ne (pc := 33) (tgt := 54) dJ8_equals_33 (by decide) ?_ ?_
            · refine zs_sub (lv' := [(0, .ref a0), (2, .ref a1)]) [0, 2] rfl ?_
              exact h36 ()
            · refine zs_sub (lv' := []) [] rfl ?_
              exact h54 ()
theorem wp_J5_size : zs_mV RJ5 yJ5_size cJ5_size 1 (some .int) 0 := ⟨q511, q512, q144, q513, by decide, by decide +kernel⟩
def gp_J5_size (w : Nat → Nat) (c : Nat) (M : ps_S) (a0 : Nat) : Option (Int32) :=
(ps_gI c M a0 17 3 2).bind fun x1 =>
some x1
set_option maxHeartbeats 4000000 in
theorem kp_J5_size (D : zs_D) (Wd : cs_W) (c : Nat) (hE : D.2.2.2 1 = .ref (Wd.1 100)) (hF : D.2.2.2 4 = hp_v (Wd.1 101)) (M : ps_S) (a0 : Nat) : zs_Con D (ps_R Wd c) ps_bd zs_eI yJ5_size cJ5_size 1 (some .int) 0 [.ref a0] M ((gp_J5_size Wd.1 c M a0).map fun x => (x, M)) := by
  unfold gp_J5_size
  refine zs_conR (own := RJ5) (nm := "size") pl_J5 rfl rfl (Nat.le_of_ble_eq_true rfl) ?_
  refine zs_lv (lv' := [(0, .ref a0)]) rfl ?_
  refine zs_aload_n (pc := 0) 0 dJ5_size_0 rfl rfl ?_
  refine ps_dI (pc := 1) (ci := 17) (k := 2) zc_J5 (by decide) q361 dJ5_size_1 (fun x1 => ?_)
  exact zs_iret (pc := 4) dJ5_size_4 rfl rfl rfl
theorem wp_J5_elementData : zs_mV RJ5 yJ5_elementData cJ5_elementData 2 (some (.object "java/lang/Object")) 1 := ⟨q525, q526, q144, q527, by decide, by decide +kernel⟩
def gp_J5_elementData (w : Nat → Nat) (c : Nat) (M : ps_S) (a0 : Nat) (a1 : Int32) : Option (Nat) :=
(ps_gR c M a0 17 3 1).bind fun y1 =>
(ps_aR c M y1 9 a1).bind fun y2 =>
some y2
set_option maxHeartbeats 4000000 in
theorem kp_J5_elementData (D : zs_D) (Wd : cs_W) (c : Nat) (hE : D.2.2.2 1 = .ref (Wd.1 100)) (hF : D.2.2.2 4 = hp_v (Wd.1 101)) (M : ps_S) (a0 : Nat) (a1 : Int32) : zs_Con D (ps_R Wd c) ps_bd zs_eR yJ5_elementData cJ5_elementData 2 (some (.object "java/lang/Object")) 0 [.ref a0, .int a1] M ((gp_J5_elementData Wd.1 c M a0 a1).map fun x => (x, M)) := by
  unfold gp_J5_elementData
  refine zs_conR (own := RJ5) (nm := "elementData") pl_J5 rfl rfl (Nat.le_of_ble_eq_true rfl) ?_
  refine zs_lv (lv' := [(0, .ref a0), (1, .int a1)]) rfl ?_
  refine zs_aload_n (pc := 0) 0 dJ5_elementData_0 rfl rfl ?_
  refine ps_dR (pc := 1) (ci := 17) (k := 1) zc_J5 (by decide) q360 dJ5_elementData_1 (fun y1 => ?_)
  refine zs_iload_n (pc := 4) 1 dJ5_elementData_4 rfl rfl ?_
  refine ps_aald (pc := 5) (t := 9) rfl rfl dJ5_elementData_5 (fun y2 => ?_)
  exact zs_aret (pc := 6) dJ5_elementData_6 rfl rfl (Or.inl ⟨_, rfl⟩) (Or.inr ⟨_, rfl⟩)
theorem wp_J5_get : zs_mV RJ5 yJ5_get cJ5_get 2 (some (.object "java/lang/Object")) 1 := ⟨q515, q516, q144, q517, by decide, by decide +kernel⟩
def gp_J5_get (w : Nat → Nat) (c : Nat) (M : ps_S) (a0 : Nat) (a1 : Int32) : Option (Nat) :=
(ps_gI c M a0 17 3 2).bind fun x1 =>
(g_ckix a1 x1).bind fun x2 =>
(ps_ck c M a0 17).bind fun _ =>
(gp_J5_elementData w c M a0 a1).bind fun y4 =>
some y4
set_option maxHeartbeats 4000000 in
theorem kp_J5_get (D : zs_D) (Wd : cs_W) (c : Nat) (hE : D.2.2.2 1 = .ref (Wd.1 100)) (hF : D.2.2.2 4 = hp_v (Wd.1 101)) (M : ps_S) (a0 : Nat) (a1 : Int32) : zs_Con D (ps_R Wd c) ps_bd zs_eR yJ5_get cJ5_get 2 (some (.object "java/lang/Object")) 3 [.ref a0, .int a1] M ((gp_J5_get Wd.1 c M a0 a1).map fun x => (x, M)) := by
  unfold gp_J5_get
  refine zs_conR (own := RJ5) (nm := "get") pl_J5 rfl rfl (Nat.le_of_ble_eq_true rfl) ?_
  refine zs_lv (lv' := [(0, .ref a0), (1, .int a1)]) rfl ?_
  refine zs_iload_n (pc := 0) 1 dJ5_get_0 rfl rfl ?_
  refine zs_aload_n (pc := 1) 0 dJ5_get_1 rfl rfl ?_
  refine ps_dI (pc := 2) (ci := 17) (k := 2) zc_J5 (by decide) q361 dJ5_get_2 (fun x1 => ?_)
  refine zs_callSrI (pc := 5) [.int a1, .int x1] [] (k_J6_checkIndex D _ _ M a1 x1) kv_J6_checkIndex q518 dJ5_get_5 rfl rfl (Nat.le_of_ble_eq_true rfl) (Nat.le_of_ble_eq_true rfl) (fun x2 => ?_)
  refine zs_pop (pc := 8) dJ5_get_8 rfl ?_
  refine zs_aload_n (pc := 9) 0 dJ5_get_9 rfl rfl ?_
  refine zs_iload_n (pc := 10) 1 dJ5_get_10 rfl rfl ?_
  refine ps_ckr (pc := 11) (a := a0) (ci := 17) (fun hc3 => ?_)
  refine zs_callVrR (pc := 11) [.int a1] [] (kp_J5_elementData D Wd c hE hF M a0 a1) wp_J5_elementData q524 zc_J5 hc3 dJ5_get_11 rfl rfl (Nat.le_of_ble_eq_true rfl) (Nat.le_of_ble_eq_true rfl) (fun y4 => ?_)
  exact zs_aret (pc := 14) dJ5_get_14 rfl rfl (Or.inl ⟨_, rfl⟩) (Or.inr ⟨_, rfl⟩)
theorem wp_J5_grow_2 : zs_mV RJ5 yJ5_grow_2 cJ5_grow_2 4 (some (.array (.object "java/lang/Object"))) 1 := ⟨q1071, qs28, q144, q1072, by decide, by decide +kernel⟩
def gp_J5_grow_2 (w : Nat → Nat) (c : Nat) (M : ps_S) (a0 : Nat) (a1 : Int32) : Option (Nat × ps_S) :=
(ps_gR c M a0 17 3 1).bind fun y1 =>
(ps_ln c M y1 9).bind fun x2 =>
if 0 < x2 then (none)
else ((ps_gR c M a0 17 3 1).bind fun y3 =>
if y3 = (w 100) then ((ps_na M 9 .null (zs_max 10 a1)).bind fun z4 =>
(ps_pV c z4.2 a0 17 3 1 (.ref z4.1)).bind fun M5 =>
some (z4.1, M5))
else (none))
set_option maxHeartbeats 4000000 in
theorem kp_J5_grow_2 (D : zs_D) (Wd : cs_W) (c : Nat) (hE : D.2.2.2 1 = .ref (Wd.1 100)) (hF : D.2.2.2 4 = hp_v (Wd.1 101)) (M : ps_S) (a0 : Nat) (a1 : Int32) : zs_Con D (ps_R Wd c) ps_bd zs_eR yJ5_grow_2 cJ5_grow_2 4 (some (.array (.object "java/lang/Object"))) 1 [.ref a0, .int a1] M (gp_J5_grow_2 Wd.1 c M a0 a1) := by
  unfold gp_J5_grow_2
  refine zs_con (own := RJ5) (nm := "grow") pl_J5 rfl rfl (Nat.le_of_ble_eq_true rfl) ?_
  refine zs_lv (lv' := [(0, .ref a0), (1, .int a1)]) rfl ?_
  refine zs_aload_n (pc := 0) 0 dJ5_grow_2_0 rfl rfl ?_
  refine ps_dR (pc := 1) (ci := 17) (k := 1) zc_J5 (by decide) q360 dJ5_grow_2_1 (fun y1 => ?_)
  refine ps_len (pc := 4) (t := 9) rfl dJ5_grow_2_4 (fun x2 => ?_)
  refine zs_istore_n (pc := 5) (lv' := [(0, .ref a0), (1, .int a1), (2, .int x2)]) [1, 2, 0] dJ5_grow_2_5 rfl (by decide) rfl ?_
  refine zs_iload_n (pc := 6) 2 dJ5_grow_2_6 rfl rfl ?_
  refine zs_if_gt (pc := 7) (tgt := 20) dJ5_grow_2_7 (by decide) ?_ ?_
  · exact zs_none
  · refine zs_aload_n (pc := 10) 0 dJ5_grow_2_10 rfl rfl ?_
    refine ps_dR (pc := 11) (ci := 17) (k := 1) zc_J5 (by decide) q360 dJ5_grow_2_11 (fun y3 => ?_)
    refine zs_gets (pc := 14) (zs_Sv1 hE) q358 dJ5_grow_2_14 ?_
    refine zs_acmp_eq (pc := 17) (tgt := 45) dJ5_grow_2_17 (by decide) ?_ ?_
    · refine zs_aload_n (pc := 45) 0 dJ5_grow_2_45 rfl rfl ?_
      refine zs_bipush (pc := 46) (v := 10) dJ5_grow_2_46 (by decide) ?_
      refine zs_iload_n (pc := 48) 1 dJ5_grow_2_48 rfl rfl ?_
      refine zs_mmax (pc := 49) q1105 dJ5_grow_2_49 (Nat.le_of_ble_eq_true rfl) (Nat.le_of_ble_eq_true rfl) ?_
      refine ps_newq (pc := 52) (t := 9) rfl q1106 q1103 dJ5_grow_2_52 (fun z4 => ?_)
      refine zs_dupx1 (pc := 55) dJ5_grow_2_55 rfl rfl ?_
      refine ps_put (pc := 56) (ci := 17) (k := 1) zc_J5 (by decide) q360 rfl rfl rfl dJ5_grow_2_56 (fun M5 => ?_)
      exact zs_aret (pc := 59) dJ5_grow_2_59 rfl rfl (Or.inr ⟨_, rfl⟩) (Or.inr ⟨_, rfl⟩)
    · exact zs_none
theorem wp_J5_grow : zs_mV RJ5 yJ5_grow cJ5_grow 1 (some (.array (.object "java/lang/Object"))) 0 := ⟨q1067, qs27, q144, q1068, by decide, by decide +kernel⟩
def gp_J5_grow (w : Nat → Nat) (c : Nat) (M : ps_S) (a0 : Nat) : Option (Nat × ps_S) :=
(ps_gI c M a0 17 3 2).bind fun x1 =>
(ps_ck c M a0 17).bind fun _ =>
(gp_J5_grow_2 w c M a0 (x1 + 1)).bind fun p3 =>
some (p3.1, p3.2)
set_option maxHeartbeats 4000000 in
theorem kp_J5_grow (D : zs_D) (Wd : cs_W) (c : Nat) (hE : D.2.2.2 1 = .ref (Wd.1 100)) (hF : D.2.2.2 4 = hp_v (Wd.1 101)) (M : ps_S) (a0 : Nat) : zs_Con D (ps_R Wd c) ps_bd zs_eR yJ5_grow cJ5_grow 1 (some (.array (.object "java/lang/Object"))) 2 [.ref a0] M (gp_J5_grow Wd.1 c M a0) := by
  unfold gp_J5_grow
  refine zs_con (own := RJ5) (nm := "grow") pl_J5 rfl rfl (Nat.le_of_ble_eq_true rfl) ?_
  refine zs_lv (lv' := [(0, .ref a0)]) rfl ?_
  refine zs_aload_n (pc := 0) 0 dJ5_grow_0 rfl rfl ?_
  refine zs_aload_n (pc := 1) 0 dJ5_grow_1 rfl rfl ?_
  refine ps_dI (pc := 2) (ci := 17) (k := 2) zc_J5 (by decide) q361 dJ5_grow_2 (fun x1 => ?_)
  refine zs_iconst (pc := 5) (v := 1) dJ5_grow_5 rfl ?_
  refine zs_iadd (pc := 6) dJ5_grow_6 ?_
  refine ps_ckr (pc := 7) (a := a0) (ci := 17) (fun hc2 => ?_)
  refine zs_callVwR (pc := 7) [.int (x1 + 1)] [] (kp_J5_grow_2 D Wd c hE hF M a0 (x1 + 1)) wp_J5_grow_2 q1069 zc_J5 hc2 dJ5_grow_7 rfl rfl (Nat.le_of_ble_eq_true rfl) (Nat.le_of_ble_eq_true rfl) (fun p3 => ?_)
  exact zs_aret (pc := 10) dJ5_grow_10 rfl rfl (Or.inr ⟨_, rfl⟩) (Or.inr ⟨_, rfl⟩)
theorem wp_J5_add_2 : zs_mV RJ5 yJ5_add_2 cJ5_add_2 4 none 3 := ⟨q1063, qs26, q144, q1064, by decide, by decide +kernel⟩
def gp_J5_add_2 (w : Nat → Nat) (c : Nat) (M : ps_S) (a0 : Nat) (a1 : Nat) (a2 : Nat) (a3 : Int32) : Option (ps_S) :=
(ps_ln c M a2 9).bind fun x1 =>
(if a3 = x1 then ((ps_ck c M a0 17).bind fun _ =>
(gp_J5_grow w c M a0).bind fun p6 =>
some (p6.1, p6.2))
else (some (a2, M))).bind fun (p2 : Nat × ps_S) =>
(ps_ck c p2.2 a1 16).bind fun _ => (ps_pA c p2.2 p2.1 9 a3 (.ref a1)).bind fun M3 =>
(ps_pV c M3 a0 17 3 2 (.int (a3 + 1))).bind fun M4 =>
some M4
set_option maxHeartbeats 4000000 in
theorem kp_J5_add_2 (D : zs_D) (Wd : cs_W) (c : Nat) (hE : D.2.2.2 1 = .ref (Wd.1 100)) (hF : D.2.2.2 4 = hp_v (Wd.1 101)) (M : ps_S) (a0 : Nat) (a1 : Nat) (a2 : Nat) (a3 : Int32) : zs_Con D (ps_R Wd c) ps_bd zs_eV yJ5_add_2 cJ5_add_2 4 none 3 [.ref a0, .ref a1, .ref a2, .int a3] M ((gp_J5_add_2 Wd.1 c M a0 a1 a2 a3).map fun x => ((), x)) := by
  unfold gp_J5_add_2
  refine zs_conV (own := RJ5) (nm := "add") pl_J5 rfl rfl (Nat.le_of_ble_eq_true rfl) ?_
  refine zs_lv (lv' := [(0, .ref a0), (1, .ref a1), (2, .ref a2), (3, .int a3)]) rfl ?_
  refine zs_iload_n (pc := 0) 3 dJ5_add_2_0 rfl rfl ?_
  refine zs_aload_n (pc := 1) 2 dJ5_add_2_1 rfl rfl ?_
  refine ps_len (pc := 2) (t := 9) rfl dJ5_add_2_2 (fun x1 => ?_)
  refine zs_join (pc := 3) (fun (p2 : Nat × ps_S) => p2.2) 11 (fun (p2 : Nat × ps_S) => [(0, .ref a0), (1, .ref a1), (2, .ref p2.1), (3, .int a3)]) (fun (p2 : Nat × ps_S) => []) (fun p2 => ?_) (fun h11 => ?_)
  · refine zs_aload_n (pc := 11) 2 dJ5_add_2_11 rfl rfl ?_
    refine zs_iload_n (pc := 12) 3 dJ5_add_2_12 rfl rfl ?_
    refine zs_aload_n (pc := 13) 1 dJ5_add_2_13 rfl rfl ?_
    refine ps_ckr (pc := 14) (fun hc3 => ?_)
    refine ps_aast (pc := 14) (t := 9) (E := "java/lang/Object") rfl zc_X16 (Or.inr q2242) hc3 dJ5_add_2_14 (fun M3 => ?_)
    refine zs_aload_n (pc := 15) 0 dJ5_add_2_15 rfl rfl ?_
    refine zs_iload_n (pc := 16) 3 dJ5_add_2_16 rfl rfl ?_
    refine zs_iconst (pc := 17) (v := 1) dJ5_add_2_17 rfl ?_
    refine zs_iadd (pc := 18) dJ5_add_2_18 ?_
    refine ps_put (pc := 19) (ci := 17) (k := 2) zc_J5 (by decide) q361 rfl rfl rfl dJ5_add_2_19 (fun M4 => ?_)
    exact zs_vret (pc := 22) dJ5_add_2_22 rfl rfl
  · refine zs_icmp_ne (pc := 3) (tgt := 11) dJ5_add_2_3 (by decide) ?_ ?_
    · refine zs_aload_n (pc := 6) 0 dJ5_add_2_6 rfl rfl ?_
      refine ps_ckr (pc := 7) (a := a0) (ci := 17) (fun hc5 => ?_)
      refine zs_callVwR (pc := 7) [] [] (kp_J5_grow D Wd c hE hF M a0) wp_J5_grow q1065 zc_J5 hc5 dJ5_add_2_7 rfl rfl (Nat.le_of_ble_eq_true rfl) (Nat.le_of_ble_eq_true rfl) (fun p6 => ?_)
      refine zs_astore_n (pc := 10) (lv' := [(0, .ref a0), (1, .ref a1), (2, .ref p6.1), (3, .int a3)]) [1, 2, 0, 3] dJ5_add_2_10 rfl (by decide) rfl ?_
      exact h11 (p6.1, p6.2)
    · exact h11 (a2, M)
theorem wp_J5_add : zs_mV RJ5 yJ5_add cJ5_add 2 (some .boolean) 1 := ⟨q1058, q1059, q144, q1060, by decide, by decide +kernel⟩
def gp_J5_add (w : Nat → Nat) (c : Nat) (M : ps_S) (a0 : Nat) (a1 : Nat) : Option (Bool × ps_S) :=
(ps_gI c M a0 17 3 0).bind fun x1 =>
(ps_pV c M a0 17 3 0 (.int (x1 + 1))).bind fun M2 =>
(ps_gR c M2 a0 17 3 1).bind fun y3 =>
(ps_gI c M2 a0 17 3 2).bind fun x4 =>
(ps_ck c M2 a0 17).bind fun _ =>
(gp_J5_add_2 w c M2 a0 a1 y3 x4).bind fun M6 =>
some (true, M6)
set_option maxHeartbeats 4000000 in
theorem kp_J5_add (D : zs_D) (Wd : cs_W) (c : Nat) (hE : D.2.2.2 1 = .ref (Wd.1 100)) (hF : D.2.2.2 4 = hp_v (Wd.1 101)) (M : ps_S) (a0 : Nat) (a1 : Nat) : zs_Con D (ps_R Wd c) ps_bd zs_eB yJ5_add cJ5_add 2 (some .boolean) 4 [.ref a0, .ref a1] M (gp_J5_add Wd.1 c M a0 a1) := by
  unfold gp_J5_add
  refine zs_con (own := RJ5) (nm := "add") pl_J5 rfl rfl (Nat.le_of_ble_eq_true rfl) ?_
  refine zs_lv (lv' := [(0, .ref a0), (1, .ref a1)]) rfl ?_
  refine zs_aload_n (pc := 0) 0 dJ5_add_0 rfl rfl ?_
  refine zs_dup (pc := 1) dJ5_add_1 rfl ?_
  refine ps_dIS (pc := 2) (ci := 17) (k := 0) zc_J5 (by decide) q363 q364 dJ5_add_2 (fun x1 => ?_)
  refine zs_iconst (pc := 5) (v := 1) dJ5_add_5 rfl ?_
  refine zs_iadd (pc := 6) dJ5_add_6 ?_
  refine ps_putS (pc := 7) (ci := 17) (k := 0) zc_J5 (by decide) q363 q364 rfl rfl rfl dJ5_add_7 (fun M2 => ?_)
  refine zs_aload_n (pc := 10) 0 dJ5_add_10 rfl rfl ?_
  refine zs_aload_n (pc := 11) 1 dJ5_add_11 rfl rfl ?_
  refine zs_aload_n (pc := 12) 0 dJ5_add_12 rfl rfl ?_
  refine ps_dR (pc := 13) (ci := 17) (k := 1) zc_J5 (by decide) q360 dJ5_add_13 (fun y3 => ?_)
  refine zs_aload_n (pc := 16) 0 dJ5_add_16 rfl rfl ?_
  refine ps_dI (pc := 17) (ci := 17) (k := 2) zc_J5 (by decide) q361 dJ5_add_17 (fun x4 => ?_)
  refine ps_ckr (pc := 20) (a := a0) (ci := 17) (fun hc5 => ?_)
  refine zs_callVv (pc := 20) [.ref a1, .ref y3, .int x4] [] (kp_J5_add_2 D Wd c hE hF M2 a0 a1 y3 x4) wp_J5_add_2 q1061 zc_J5 hc5 dJ5_add_20 rfl rfl (Nat.le_of_ble_eq_true rfl) (Nat.le_of_ble_eq_true rfl) (fun M6 => ?_)
  refine zs_iconst (pc := 23) (v := 1) dJ5_add_23 rfl ?_
  exact zs_iret (pc := 24) dJ5_add_24 rfl rfl rfl
