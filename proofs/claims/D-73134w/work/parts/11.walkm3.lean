/-! THE MODEL's methods, walked: what each computes (gm_), that its code computes it (km_). Printed by wip/D-73134w/gen/model.py -/
set_option maxRecDepth 100000
theorem kv_breaksAt : zs_mV RX10 yX10_breaksAt cX10_breaksAt 3 (some .int) 1 := ⟨q1977, qs104, q152, q1978, by decide, by decide +kernel⟩
def gm_breaksAt_L2 (a1 : Int32) : (Int32 × zm_S) → Option ((Int32 × zm_S) ⊕ (Int32 × zm_S)) := fun t2 =>
(zs_ald 33 (t2.2.2.1 48) 24).bind fun x1 =>
if t2.1 < (2 * x1) then ((gm_spareAt t2.2 t2.1).bind fun p2 =>
if p2.1 < a1 then (some (Sum.inr (t2.1, p2.2)))
else (some (Sum.inl ((t2.1 + 1), p2.2))))
else (some (Sum.inr ((-1), t2.2)))
def gm_breaksAt (M : zm_S) (a1 : Int32) : Option (Int32 × zm_S) :=
(zs_loop 5000 (gm_breaksAt_L2 a1) (0, M)).bind fun z => some z
set_option maxHeartbeats 4000000 in
theorem km_breaksAt (D : zs_D) (h0 : zs_AH) (m : Nat) (M : zm_S) (a1 : Int32) : zs_Con D (zm_R h0 m) zm_bd zs_eI yX10_breaksAt cX10_breaksAt 3 (some .int) 6 [.ref m, .int a1] M (gm_breaksAt M a1) := by
  unfold gm_breaksAt
  refine zs_con (own := RX10) (nm := "breaksAt") pl_X10 rfl rfl (Nat.le_of_ble_eq_true rfl) ?_
  refine zs_lv (lv' := [(0, .ref m), (1, .int a1)]) rfl ?_
  refine zs_iconst (pc := 0) (v := 0) dX10_breaksAt_0 rfl ?_
  refine zs_istore_n (pc := 1) (lv' := [(0, .ref m), (1, .int a1), (2, .int 0)]) [1, 2, 0] dX10_breaksAt_1 rfl (by decide) rfl ?_
  refine zs_whileX (pc := 2) (fun (t2 : Int32 × zm_S) => t2.2) (fun (t2 : Int32 × zm_S) => [(0, .ref m), (1, .int a1), (2, .int t2.1)]) 5000 (0, M) (fun X2 hL2 hR2 t2 => ?_)
  unfold gm_breaksAt_L2
  refine zs_iload_n (pc := 2) 2 dX10_breaksAt_2 rfl rfl ?_
  refine zs_iconst (pc := 3) (v := 2) dX10_breaksAt_3 rfl ?_
  refine zs_aload_n (pc := 4) 0 dX10_breaksAt_4 rfl rfl ?_
  refine zm_geta (pc := 5) 48 30 (by decide) rfl q1581 dX10_breaksAt_5 ?_
  refine zs_bipush (pc := 8) (v := 24) dX10_breaksAt_8 (by decide) ?_
  refine zm_iald (pc := 10) 48 30 zm_p48 dX10_breaksAt_10 (fun x1 => ?_)
  refine zs_imul (pc := 11) dX10_breaksAt_11 ?_
  refine zs_icmp_ge (pc := 12) (tgt := 32) dX10_breaksAt_12 (by decide) ?_ ?_
  · refine zs_aload_n (pc := 15) 0 dX10_breaksAt_15 rfl rfl ?_
    refine zs_iload_n (pc := 16) 2 dX10_breaksAt_16 rfl rfl ?_
    refine zs_callVwI (pc := 17) [.int t2.1] [] (km_spareAt D h0 m t2.2 t2.1) kv_spareAt q1979 zc_X10 zm_recv dX10_breaksAt_17 rfl rfl (Nat.le_of_ble_eq_true rfl) (Nat.le_of_ble_eq_true rfl) (fun p2 => ?_)
    refine zs_iload_n (pc := 20) 1 dX10_breaksAt_20 rfl rfl ?_
    refine zs_icmp_ge (pc := 21) (tgt := 26) dX10_breaksAt_21 (by decide) ?_ ?_
    · refine zs_iload_n (pc := 24) 2 dX10_breaksAt_24 rfl rfl ?_
      exact zs_iret (pc := 25) dX10_breaksAt_25 ((hR2 _).trans rfl) rfl rfl
    · refine zs_iinc (pc := 26) (lv' := [(0, .ref m), (1, .int a1), (2, .int (t2.1 + 1))]) 2 [1, 2, 0] dX10_breaksAt_26 rfl rfl (by decide) rfl ?_
      refine zs_goto (pc := 29) (tgt := 2) dX10_breaksAt_29 (by decide) ?_
      exact hL2 ((t2.1 + 1), p2.2)
  · refine zs_iconst (pc := 32) (v := (-1)) dX10_breaksAt_32 rfl ?_
    exact zs_iret (pc := 33) dX10_breaksAt_33 ((hR2 _).trans rfl) rfl rfl
theorem kv_haul : zs_mV RX10 yX10_haul cX10_haul 3 (some .int) 1 := ⟨q1969, q1970, q152, q1971, by decide, by decide +kernel⟩
def gm_haul (M : zm_S) (a1 : Int32) : Option (Int32 × zm_S) :=
(gm_copies M).bind fun M1 =>
(gm_isWeight a1).bind fun b2 =>
if b2 = true then ((gm_ropeLong M1).bind fun x3 =>
(zs_ald 2 (M1.2.1 27) (M1.1 18)).bind fun x4 =>
if x3 < x4 then (some ((-1), M1))
else ((gm_breaksAt M1 a1).bind fun p5 =>
(if p5.1 < 0 then ((zs_ald 33 (p5.2.2.1 48) 32).bind fun x10 =>
(zs_ast 33 32 (zm_sA p5.2 48 32 (x10 + a1))).bind fun M11 =>
some M11)
else ((gm_loses p5.2 (p5.1 / 2)).bind fun M9 =>
some M9)).bind fun (p6 : zm_S) =>
(gm_records p6).bind fun M7 =>
(zs_ald 33 (M7.2.1 47) 24).bind fun x8 =>
some (x8, M7)))
else (some ((-1), M1))
set_option maxHeartbeats 4000000 in
theorem km_haul (D : zs_D) (h0 : zs_AH) (m : Nat) (M : zm_S) (a1 : Int32) : zs_Con D (zm_R h0 m) zm_bd zs_eI yX10_haul cX10_haul 3 (some .int) 7 [.ref m, .int a1] M (gm_haul M a1) := by
  unfold gm_haul
  refine zs_con (own := RX10) (nm := "haul") pl_X10 rfl rfl (Nat.le_of_ble_eq_true rfl) ?_
  refine zs_lv (lv' := [(0, .ref m), (1, .int a1)]) rfl ?_
  refine zs_aload_n (pc := 0) 0 dX10_haul_0 rfl rfl ?_
  refine zs_callVv (pc := 1) [] [] (km_copies D h0 m M) kv_copies q1873 zc_X10 zm_recv dX10_haul_1 rfl rfl (Nat.le_of_ble_eq_true rfl) (Nat.le_of_ble_eq_true rfl) (fun M1 => ?_)
  refine zs_iload_n (pc := 4) 1 dX10_haul_4 rfl rfl ?_
  refine zs_callSrB (pc := 5) [.int a1] [] (km_isWeight D _ _ M1 a1) kv_isWeight q1972 dX10_haul_5 rfl rfl (Nat.le_of_ble_eq_true rfl) (Nat.le_of_ble_eq_true rfl) (fun b2 => ?_)
  refine zs_if_f (pc := 8) (tgt := 27) dX10_haul_8 (by decide) ?_ ?_
  · refine zs_aload_n (pc := 11) 0 dX10_haul_11 rfl rfl ?_
    refine zs_callVrI (pc := 12) [] [] (km_ropeLong D h0 m M1) kv_ropeLong q1956 zc_X10 zm_recv dX10_haul_12 rfl rfl (Nat.le_of_ble_eq_true rfl) (Nat.le_of_ble_eq_true rfl) (fun x3 => ?_)
    refine zs_aload_n (pc := 15) 0 dX10_haul_15 rfl rfl ?_
    refine zm_geta (pc := 16) 27 13 (by decide) rfl q1560 dX10_haul_16 ?_
    refine zs_aload_n (pc := 19) 0 dX10_haul_19 rfl rfl ?_
    refine zm_geti (pc := 20) 18 (by decide) rfl q1551 dX10_haul_20 ?_
    refine zm_iald (pc := 23) 27 13 zm_p27 dX10_haul_23 (fun x4 => ?_)
    refine zs_icmp_ge (pc := 24) (tgt := 29) dX10_haul_24 (by decide) ?_ ?_
    · refine zs_iconst (pc := 27) (v := (-1)) dX10_haul_27 rfl ?_
      exact zs_iret (pc := 28) dX10_haul_28 rfl rfl rfl
    · refine zs_aload_n (pc := 29) 0 dX10_haul_29 rfl rfl ?_
      refine zs_iload_n (pc := 30) 1 dX10_haul_30 rfl rfl ?_
      refine zs_callVwI (pc := 31) [.int a1] [] (km_breaksAt D h0 m M1 a1) kv_breaksAt q1975 zc_X10 zm_recv dX10_haul_31 rfl rfl (Nat.le_of_ble_eq_true rfl) (Nat.le_of_ble_eq_true rfl) (fun p5 => ?_)
      refine zs_istore_n (pc := 34) (lv' := [(0, .ref m), (1, .int a1), (2, .int p5.1)]) [1, 2, 0] dX10_haul_34 rfl (by decide) rfl ?_
      refine zs_iload_n (pc := 35) 2 dX10_haul_35 rfl rfl ?_
      refine zs_join (pc := 36) (fun (p6 : zm_S) => p6) 60 (fun (p6 : zm_S) => [(0, .ref m)]) (fun (p6 : zm_S) => []) (fun p6 => ?_) (fun h60 => ?_)
      · refine zs_aload_n (pc := 60) 0 dX10_haul_60 rfl rfl ?_
        refine zs_callVv (pc := 61) [] [] (km_records D h0 m p6) kv_records q1952 zc_X10 zm_recv dX10_haul_61 rfl rfl (Nat.le_of_ble_eq_true rfl) (Nat.le_of_ble_eq_true rfl) (fun M7 => ?_)
        refine zs_aload_n (pc := 64) 0 dX10_haul_64 rfl rfl ?_
        refine zm_geta (pc := 65) 47 29 (by decide) rfl q1580 dX10_haul_65 ?_
        refine zs_bipush (pc := 68) (v := 24) dX10_haul_68 (by decide) ?_
        refine zm_iald (pc := 70) 47 29 zm_p47 dX10_haul_70 (fun x8 => ?_)
        exact zs_iret (pc := 71) dX10_haul_71 rfl rfl rfl
      · refine zs_if_ge (pc := 36) (tgt := 53) dX10_haul_36 (by decide) ?_ ?_
        · refine zs_aload_n (pc := 39) 0 dX10_haul_39 rfl rfl ?_
          refine zm_geta (pc := 40) 48 30 (by decide) rfl q1581 dX10_haul_40 ?_
          refine zs_bipush (pc := 43) (v := 32) dX10_haul_43 (by decide) ?_
          refine zs_dup2 (pc := 45) dX10_haul_45 rfl rfl ?_
          refine zm_iald (pc := 46) 48 30 zm_p48 dX10_haul_46 (fun x10 => ?_)
          refine zs_iload_n (pc := 47) 1 dX10_haul_47 rfl rfl ?_
          refine zs_iadd (pc := 48) dX10_haul_48 ?_
          refine zm_iast (pc := 49) 48 30 zm_p48 dX10_haul_49 (fun M11 => ?_)
          refine zs_goto (pc := 50) (tgt := 60) dX10_haul_50 (by decide) ?_
          refine zs_sub (lv' := [(0, .ref m)]) [0] rfl ?_
          exact h60 M11
        · refine zs_aload_n (pc := 53) 0 dX10_haul_53 rfl rfl ?_
          refine zs_iload_n (pc := 54) 2 dX10_haul_54 rfl rfl ?_
          refine zs_iconst (pc := 55) (v := 2) dX10_haul_55 rfl ?_
          refine zs_idivK (pc := 56) dX10_haul_56 (by decide) ?_
          refine zs_callVv (pc := 57) [.int (p5.1 / 2)] [] (km_loses D h0 m p5.2 (p5.1 / 2)) kv_loses q1964 zc_X10 zm_recv dX10_haul_57 rfl rfl (Nat.le_of_ble_eq_true rfl) (Nat.le_of_ble_eq_true rfl) (fun M9 => ?_)
          refine zs_sub (lv' := [(0, .ref m)]) [0] rfl ?_
          exact h60 M9
  · refine zs_iconst (pc := 27) (v := (-1)) dX10_haul_27 rfl ?_
    exact zs_iret (pc := 28) dX10_haul_28 rfl rfl rfl
theorem kv_isLong : zs_mS yX10_isLong cX10_isLong 1 (some .boolean) 1 := ⟨q1992, q152, q1993, by decide, by decide +kernel⟩
def gm_isLong (a0 : Int32) : Option (Bool) :=
(gm_in a0 0 60).bind fun b1 =>
some b1
set_option maxHeartbeats 4000000 in
theorem km_isLong {σ : Type} (D : zs_D) (Rl : σ → zs_AH → Prop) (bd : σ → Nat × Nat) (M : σ) (a0 : Int32) : zs_Con D Rl bd zs_eB yX10_isLong cX10_isLong 1 (some .boolean) 1 [.int a0] M ((gm_isLong a0).map fun x => (x, M)) := by
  unfold gm_isLong
  refine zs_conR (own := RX10) (nm := "isLong") pl_X10 rfl rfl (Nat.le_of_ble_eq_true rfl) ?_
  refine zs_lv (lv' := [(0, .int a0)]) rfl ?_
  refine zs_iload_n (pc := 0) 0 dX10_isLong_0 rfl rfl ?_
  refine zs_iconst (pc := 1) (v := 0) dX10_isLong_1 rfl ?_
  refine zs_bipush (pc := 2) (v := 60) dX10_isLong_2 (by decide) ?_
  refine zs_callSrB (pc := 4) [.int a0, .int 0, .int 60] [] (km_in D _ _ M a0 0 60) kv_in q1870 dX10_isLong_4 rfl rfl (Nat.le_of_ble_eq_true rfl) (Nat.le_of_ble_eq_true rfl) (fun b1 => ?_)
  exact zs_iret (pc := 7) dX10_isLong_7 rfl rfl (zs_nb _)
theorem kv_mixed : zs_mS yX10_mixed cX10_mixed 3 (some .int) 2 := ⟨q2011, q152, q2012, by decide, by decide +kernel⟩
def gm_mixed (a0 : Int32) (a1 : Int32) : Option (Int32) :=
(some (((a0 ^^^ a1) * 1103515245) + 12345)).bind fun x1 =>
some (x1 ^^^ (zs_ushr x1 15))
set_option maxHeartbeats 4000000 in
theorem km_mixed {σ : Type} (D : zs_D) (Rl : σ → zs_AH → Prop) (bd : σ → Nat × Nat) (M : σ) (a0 : Int32) (a1 : Int32) : zs_Con D Rl bd zs_eI yX10_mixed cX10_mixed 3 (some .int) 0 [.int a0, .int a1] M ((gm_mixed a0 a1).map fun x => (x, M)) := by
  unfold gm_mixed
  refine zs_conR (own := RX10) (nm := "mixed") pl_X10 rfl rfl (Nat.le_of_ble_eq_true rfl) ?_
  refine zs_lv (lv' := [(0, .int a0), (1, .int a1)]) rfl ?_
  refine zs_iload_n (pc := 0) 0 dX10_mixed_0 rfl rfl ?_
  refine zs_iload_n (pc := 1) 1 dX10_mixed_1 rfl rfl ?_
  refine zs_ixor (pc := 2) dX10_mixed_2 ?_
  refine zs_ldcw (pc := 3) (v := 1103515245) q2013 dX10_mixed_3 ?_
  refine zs_imul (pc := 6) dX10_mixed_6 ?_
  refine zs_sipush (pc := 7) (v := 12345) dX10_mixed_7 (by decide) ?_
  refine zs_iadd (pc := 10) dX10_mixed_10 ?_
  refine zs_nm (fun x1 => ?_)
  refine zs_istore_n (pc := 11) (lv' := [(0, .int a0), (1, .int a1), (2, .int x1)]) [1, 2, 0] dX10_mixed_11 rfl (by decide) rfl ?_
  refine zs_iload_n (pc := 12) 2 dX10_mixed_12 rfl rfl ?_
  refine zs_iload_n (pc := 13) 2 dX10_mixed_13 rfl rfl ?_
  refine zs_bipush (pc := 14) (v := 15) dX10_mixed_14 (by decide) ?_
  refine zs_iushr (pc := 16) dX10_mixed_16 ?_
  refine zs_ixor (pc := 17) dX10_mixed_17 ?_
  exact zs_iret (pc := 18) dX10_mixed_18 rfl rfl rfl
theorem kv_lotOf : zs_mV RX10 yX10_lotOf cX10_lotOf 2 (some .int) 1 := ⟨q2008, qs110, q152, q2009, by decide, by decide +kernel⟩
def gm_lotOf (M : zm_S) (a1 : Int32) : Option (Int32) :=
(gm_mixed (M.1 49) 219).bind fun x1 =>
(gm_mixed x1 a1).bind fun x2 =>
some (zs_rem (zs_ushr x2 1) 100)
set_option maxHeartbeats 4000000 in
theorem km_lotOf (D : zs_D) (h0 : zs_AH) (m : Nat) (M : zm_S) (a1 : Int32) : zs_Con D (zm_R h0 m) zm_bd zs_eI yX10_lotOf cX10_lotOf 2 (some .int) 1 [.ref m, .int a1] M ((gm_lotOf M a1).map fun x => (x, M)) := by
  unfold gm_lotOf
  refine zs_conR (own := RX10) (nm := "lotOf") pl_X10 rfl rfl (Nat.le_of_ble_eq_true rfl) ?_
  refine zs_lv (lv' := [(0, .ref m), (1, .int a1)]) rfl ?_
  refine zs_aload_n (pc := 0) 0 dX10_lotOf_0 rfl rfl ?_
  refine zm_geti (pc := 1) 49 (by decide) rfl q1582 dX10_lotOf_1 ?_
  refine zs_sipush (pc := 4) (v := 219) dX10_lotOf_4 (by decide) ?_
  refine zs_callSrI (pc := 7) [.int (M.1 49), .int 219] [] (km_mixed D _ _ M (M.1 49) 219) kv_mixed q2010 dX10_lotOf_7 rfl rfl (Nat.le_of_ble_eq_true rfl) (Nat.le_of_ble_eq_true rfl) (fun x1 => ?_)
  refine zs_iload_n (pc := 10) 1 dX10_lotOf_10 rfl rfl ?_
  refine zs_callSrI (pc := 11) [.int x1, .int a1] [] (km_mixed D _ _ M x1 a1) kv_mixed q2010 dX10_lotOf_11 rfl rfl (Nat.le_of_ble_eq_true rfl) (Nat.le_of_ble_eq_true rfl) (fun x2 => ?_)
  refine zs_iconst (pc := 14) (v := 1) dX10_lotOf_14 rfl ?_
  refine zs_iushr (pc := 15) dX10_lotOf_15 ?_
  refine zs_bipush (pc := 16) (v := 100) dX10_lotOf_16 (by decide) ?_
  refine zs_iremK (pc := 18) dX10_lotOf_18 (by decide) ?_
  exact zs_iret (pc := 19) dX10_lotOf_19 rfl rfl rfl
theorem kv_isBlighted : zs_mV RX10 yX10_isBlighted cX10_isBlighted 2 (some .boolean) 1 := ⟨q2004, qs109, q152, q2005, by decide, by decide +kernel⟩
def gm_isBlighted (M : zm_S) (a1 : Int32) : Option (Bool) :=
zs_let (fun (p1 : Unit) => some false) fun J39 =>
if (M.1 50) = 0 then ((zs_ald 33 (M.2.1 48) 31).bind fun x2 =>
(gm_lotOf M ((8 * x2) + a1)).bind fun x3 =>
(zs_ald 2 (M.2.1 29) (M.1 18)).bind fun x4 =>
if x3 < x4 then (some true)
else (J39 ()))
else (J39 ())
set_option maxHeartbeats 4000000 in
theorem km_isBlighted (D : zs_D) (h0 : zs_AH) (m : Nat) (M : zm_S) (a1 : Int32) : zs_Con D (zm_R h0 m) zm_bd zs_eB yX10_isBlighted cX10_isBlighted 2 (some .boolean) 2 [.ref m, .int a1] M ((gm_isBlighted M a1).map fun x => (x, M)) := by
  unfold gm_isBlighted
  refine zs_conR (own := RX10) (nm := "isBlighted") pl_X10 rfl rfl (Nat.le_of_ble_eq_true rfl) ?_
  refine zs_lv (lv' := [(0, .ref m), (1, .int a1)]) rfl ?_
  refine zs_aload_n (pc := 0) 0 dX10_isBlighted_0 rfl rfl ?_
  refine zm_geti (pc := 1) 50 (by decide) rfl q1583 dX10_isBlighted_1 ?_
  refine zs_letJ (pc := 4) (fun (p1 : Unit) => M) 39 (fun (p1 : Unit) => []) (fun (p1 : Unit) => []) (fun p1 => ?_) (fun J39 h39 => ?_)
  · refine zs_iconst (pc := 39) (v := 0) dX10_isBlighted_39 rfl ?_
    exact zs_iret (pc := 40) dX10_isBlighted_40 rfl rfl rfl
  · refine zs_if_ne (pc := 4) (tgt := 39) dX10_isBlighted_4 (by decide) ?_ ?_
    · refine zs_aload_n (pc := 7) 0 dX10_isBlighted_7 rfl rfl ?_
      refine zs_bipush (pc := 8) (v := 8) dX10_isBlighted_8 (by decide) ?_
      refine zs_aload_n (pc := 10) 0 dX10_isBlighted_10 rfl rfl ?_
      refine zm_geta (pc := 11) 48 30 (by decide) rfl q1581 dX10_isBlighted_11 ?_
      refine zs_bipush (pc := 14) (v := 31) dX10_isBlighted_14 (by decide) ?_
      refine zm_iald (pc := 16) 48 30 zm_p48 dX10_isBlighted_16 (fun x2 => ?_)
      refine zs_imul (pc := 17) dX10_isBlighted_17 ?_
      refine zs_iload_n (pc := 18) 1 dX10_isBlighted_18 rfl rfl ?_
      refine zs_iadd (pc := 19) dX10_isBlighted_19 ?_
      refine zs_callVrI (pc := 20) [.int ((8 * x2) + a1)] [] (km_lotOf D h0 m M ((8 * x2) + a1)) kv_lotOf q2006 zc_X10 zm_recv dX10_isBlighted_20 rfl rfl (Nat.le_of_ble_eq_true rfl) (Nat.le_of_ble_eq_true rfl) (fun x3 => ?_)
      refine zs_aload_n (pc := 23) 0 dX10_isBlighted_23 rfl rfl ?_
      refine zm_geta (pc := 24) 29 15 (by decide) rfl q1562 dX10_isBlighted_24 ?_
      refine zs_aload_n (pc := 27) 0 dX10_isBlighted_27 rfl rfl ?_
      refine zm_geti (pc := 28) 18 (by decide) rfl q1551 dX10_isBlighted_28 ?_
      refine zm_iald (pc := 31) 29 15 zm_p29 dX10_isBlighted_31 (fun x4 => ?_)
      refine zs_icmp_ge (pc := 32) (tgt := 39) dX10_isBlighted_32 (by decide) ?_ ?_
      · refine zs_iconst (pc := 35) (v := 1) dX10_isBlighted_35 rfl ?_
        refine zs_goto (pc := 36) (tgt := 40) dX10_isBlighted_36 (by decide) ?_
        exact zs_iret (pc := 40) dX10_isBlighted_40 rfl rfl rfl
      · refine zs_sub (lv' := []) [] rfl ?_
        exact h39 ()
    · refine zs_sub (lv' := []) [] rfl ?_
      exact h39 ()
theorem kv_yearGoes : zs_mV RX10 yX10_yearGoes cX10_yearGoes 2 none 0 := ⟨q2000, qs108, q152, q2001, by decide, by decide +kernel⟩
def gm_yearGoes_L2 : (Int32 × zm_S) → Option ((Int32 × zm_S) ⊕ (zm_S)) := fun t2 =>
(zs_ald 2 (t2.2.2.1 22) (t2.2.1 18)).bind fun x1 =>
if t2.1 < x1 then ((gm_growsOf t2.2 t2.1).bind fun p2 =>
(zs_ast 6 t2.1 (zm_sA p2.2 51 t2.1 p2.1)).bind fun M3 =>
(gm_weakensOf M3 t2.1).bind fun p4 =>
(zs_ast 6 t2.1 (zm_sA p4.2 52 t2.1 p4.1)).bind fun M5 =>
some (Sum.inl ((t2.1 + 1), M5)))
else (some (Sum.inr t2.2))
def gm_yearGoes_L45 : (Int32 × zm_S) → Option ((Int32 × zm_S) ⊕ (zm_S)) := fun t45 =>
(zs_ald 2 (t45.2.2.1 22) (t45.2.1 18)).bind fun x7 =>
if t45.1 < x7 then ((gm_isBlighted t45.2 t45.1).bind fun b8 =>
(if b8 = true then ((zs_ald 33 (t45.2.2.1 48) t45.1).bind fun x20 =>
some (x20 / 2))
else ((zs_ald 33 (t45.2.2.1 48) t45.1).bind fun x17 =>
(zs_ald 6 (t45.2.2.1 51) t45.1).bind fun x18 =>
(gm_within (x17 + x18) 0 99).bind fun x19 =>
some x19)).bind fun (p9 : Int32) =>
(zs_ast 33 t45.1 (zm_sA t45.2 48 t45.1 p9)).bind fun M10 =>
(gm_hasPlait M10 t45.1).bind fun b11 =>
(if b11 = true then ((zs_ald 33 (M10.2.1 48) (12 + t45.1)).bind fun x13 =>
(zs_ald 6 (M10.2.1 52) t45.1).bind fun x14 =>
(gm_within (x13 - x14) 0 99).bind fun x15 =>
(zs_ast 33 (12 + t45.1) (zm_sA M10 48 (12 + t45.1) x15)).bind fun M16 =>
some M16)
else (some M10)).bind fun (p12 : zm_S) =>
some (Sum.inl ((t45.1 + 1), p12)))
else (some (Sum.inr t45.2))
def gm_yearGoes (M : zm_S) : Option (zm_S) :=
(zs_loop 5000 gm_yearGoes_L2 (0, M)).bind fun (r6 : zm_S) =>
(zs_loop 5000 gm_yearGoes_L45 (0, r6)).bind fun (r21 : zm_S) =>
(zs_ald 33 (r21.2.1 48) 31).bind fun x22 =>
(zs_ast 33 31 (zm_sA r21 48 31 (x22 + 1))).bind fun M23 =>
some M23
set_option maxHeartbeats 4000000 in
theorem km_yearGoes (D : zs_D) (h0 : zs_AH) (m : Nat) (M : zm_S) : zs_Con D (zm_R h0 m) zm_bd zs_eV yX10_yearGoes cX10_yearGoes 2 none 4 [.ref m] M ((gm_yearGoes M).map fun x => ((), x)) := by
  unfold gm_yearGoes
  refine zs_conV (own := RX10) (nm := "yearGoes") pl_X10 rfl rfl (Nat.le_of_ble_eq_true rfl) ?_
  refine zs_lv (lv' := [(0, .ref m)]) rfl ?_
  refine zs_iconst (pc := 0) (v := 0) dX10_yearGoes_0 rfl ?_
  refine zs_istore_n (pc := 1) (lv' := [(0, .ref m), (1, .int 0)]) [1, 0] dX10_yearGoes_1 rfl (by decide) rfl ?_
  refine zs_whileJ (pc := 2) (fun (t2 : Int32 × zm_S) => t2.2) (fun (t2 : Int32 × zm_S) => [(0, .ref m), (1, .int t2.1)]) 5000 (0, M) (fun (r6 : zm_S) => r6) 43 (fun (r6 : zm_S) => [(0, .ref m)]) [] (fun r6 => ?_) (fun X2 hL2 hE2 t2 => ?_)
  · refine zs_iconst (pc := 43) (v := 0) dX10_yearGoes_43 rfl ?_
    refine zs_istore_n (pc := 44) (lv' := [(0, .ref m), (1, .int 0)]) [1, 0] dX10_yearGoes_44 rfl (by decide) rfl ?_
    refine zs_whileJ (pc := 45) (fun (t45 : Int32 × zm_S) => t45.2) (fun (t45 : Int32 × zm_S) => [(0, .ref m), (1, .int t45.1)]) 5000 (0, r6) (fun (r21 : zm_S) => r21) 147 (fun (r21 : zm_S) => [(0, .ref m)]) [] (fun r21 => ?_) (fun X45 hL45 hE45 t45 => ?_)
    · refine zs_aload_n (pc := 147) 0 dX10_yearGoes_147 rfl rfl ?_
      refine zm_geta (pc := 148) 48 30 (by decide) rfl q1581 dX10_yearGoes_148 ?_
      refine zs_bipush (pc := 151) (v := 31) dX10_yearGoes_151 (by decide) ?_
      refine zs_dup2 (pc := 153) dX10_yearGoes_153 rfl rfl ?_
      refine zm_iald (pc := 154) 48 30 zm_p48 dX10_yearGoes_154 (fun x22 => ?_)
      refine zs_iconst (pc := 155) (v := 1) dX10_yearGoes_155 rfl ?_
      refine zs_iadd (pc := 156) dX10_yearGoes_156 ?_
      refine zm_iast (pc := 157) 48 30 zm_p48 dX10_yearGoes_157 (fun M23 => ?_)
      exact zs_vret (pc := 158) dX10_yearGoes_158 rfl rfl
    · unfold gm_yearGoes_L45
      refine zs_iload_n (pc := 45) 1 dX10_yearGoes_45 rfl rfl ?_
      refine zs_aload_n (pc := 46) 0 dX10_yearGoes_46 rfl rfl ?_
      refine zm_geta (pc := 47) 22 8 (by decide) rfl q1555 dX10_yearGoes_47 ?_
      refine zs_aload_n (pc := 50) 0 dX10_yearGoes_50 rfl rfl ?_
      refine zm_geti (pc := 51) 18 (by decide) rfl q1551 dX10_yearGoes_51 ?_
      refine zm_iald (pc := 54) 22 8 zm_p22 dX10_yearGoes_54 (fun x7 => ?_)
      refine zs_icmp_ge (pc := 55) (tgt := 147) dX10_yearGoes_55 (by decide) ?_ ?_
      · refine zs_aload_n (pc := 58) 0 dX10_yearGoes_58 rfl rfl ?_
        refine zm_geta (pc := 59) 48 30 (by decide) rfl q1581 dX10_yearGoes_59 ?_
        refine zs_iload_n (pc := 62) 1 dX10_yearGoes_62 rfl rfl ?_
        refine zs_aload_n (pc := 63) 0 dX10_yearGoes_63 rfl rfl ?_
        refine zs_iload_n (pc := 64) 1 dX10_yearGoes_64 rfl rfl ?_
        refine zs_callVrB (pc := 65) [.int t45.1] [.int t45.1, .ref (m + (30 + 1))] (km_isBlighted D h0 m t45.2 t45.1) kv_isBlighted q2002 zc_X10 zm_recv dX10_yearGoes_65 rfl rfl (Nat.le_of_ble_eq_true rfl) (Nat.le_of_ble_eq_true rfl) (fun b8 => ?_)
        refine zs_join (pc := 68) (fun (p9 : Int32) => t45.2) 101 (fun (p9 : Int32) => [(0, .ref m), (1, .int t45.1)]) (fun (p9 : Int32) => [.int p9, .int t45.1, .ref (m + (30 + 1))]) (fun p9 => ?_) (fun h101 => ?_)
        · refine zm_iast (pc := 101) 48 30 zm_p48 dX10_yearGoes_101 (fun M10 => ?_)
          refine zs_aload_n (pc := 102) 0 dX10_yearGoes_102 rfl rfl ?_
          refine zs_iload_n (pc := 103) 1 dX10_yearGoes_103 rfl rfl ?_
          refine zs_callVrB (pc := 104) [.int t45.1] [] (km_hasPlait D h0 m M10 t45.1) kv_hasPlait q1881 zc_X10 zm_recv dX10_yearGoes_104 rfl rfl (Nat.le_of_ble_eq_true rfl) (Nat.le_of_ble_eq_true rfl) (fun b11 => ?_)
          refine zs_join (pc := 107) (fun (p12 : zm_S) => p12) 141 (fun (p12 : zm_S) => [(0, .ref m), (1, .int t45.1)]) (fun (p12 : zm_S) => []) (fun p12 => ?_) (fun h141 => ?_)
          · refine zs_iinc (pc := 141) (lv' := [(0, .ref m), (1, .int (t45.1 + 1))]) 1 [1, 0] dX10_yearGoes_141 rfl rfl (by decide) rfl ?_
            refine zs_goto (pc := 144) (tgt := 45) dX10_yearGoes_144 (by decide) ?_
            exact hL45 ((t45.1 + 1), p12)
          · refine zs_if_f (pc := 107) (tgt := 141) dX10_yearGoes_107 (by decide) ?_ ?_
            · refine zs_aload_n (pc := 110) 0 dX10_yearGoes_110 rfl rfl ?_
              refine zm_geta (pc := 111) 48 30 (by decide) rfl q1581 dX10_yearGoes_111 ?_
              refine zs_bipush (pc := 114) (v := 12) dX10_yearGoes_114 (by decide) ?_
              refine zs_iload_n (pc := 116) 1 dX10_yearGoes_116 rfl rfl ?_
              refine zs_iadd (pc := 117) dX10_yearGoes_117 ?_
              refine zs_aload_n (pc := 118) 0 dX10_yearGoes_118 rfl rfl ?_
              refine zm_geta (pc := 119) 48 30 (by decide) rfl q1581 dX10_yearGoes_119 ?_
              refine zs_bipush (pc := 122) (v := 12) dX10_yearGoes_122 (by decide) ?_
              refine zs_iload_n (pc := 124) 1 dX10_yearGoes_124 rfl rfl ?_
              refine zs_iadd (pc := 125) dX10_yearGoes_125 ?_
              refine zm_iald (pc := 126) 48 30 zm_p48 dX10_yearGoes_126 (fun x13 => ?_)
              refine zs_aload_n (pc := 127) 0 dX10_yearGoes_127 rfl rfl ?_
              refine zm_geta (pc := 128) 52 32 (by decide) rfl q1585 dX10_yearGoes_128 ?_
              refine zs_iload_n (pc := 131) 1 dX10_yearGoes_131 rfl rfl ?_
              refine zm_iald (pc := 132) 52 32 zm_p52 dX10_yearGoes_132 (fun x14 => ?_)
              refine zs_isub (pc := 133) dX10_yearGoes_133 ?_
              refine zs_iconst (pc := 134) (v := 0) dX10_yearGoes_134 rfl ?_
              refine zs_bipush (pc := 135) (v := 99) dX10_yearGoes_135 (by decide) ?_
              refine zs_callSrI (pc := 137) [.int (x13 - x14), .int 0, .int 99] [.int (12 + t45.1), .ref (m + (30 + 1))] (km_within D _ _ M10 (x13 - x14) 0 99) kv_within q1909 dX10_yearGoes_137 rfl rfl (Nat.le_of_ble_eq_true rfl) (Nat.le_of_ble_eq_true rfl) (fun x15 => ?_)
              refine zm_iast (pc := 140) 48 30 zm_p48 dX10_yearGoes_140 (fun M16 => ?_)
              exact h141 M16
            · exact h141 M10
        · refine zs_if_f (pc := 68) (tgt := 82) dX10_yearGoes_68 (by decide) ?_ ?_
          · refine zs_aload_n (pc := 71) 0 dX10_yearGoes_71 rfl rfl ?_
            refine zm_geta (pc := 72) 48 30 (by decide) rfl q1581 dX10_yearGoes_72 ?_
            refine zs_iload_n (pc := 75) 1 dX10_yearGoes_75 rfl rfl ?_
            refine zm_iald (pc := 76) 48 30 zm_p48 dX10_yearGoes_76 (fun x20 => ?_)
            refine zs_iconst (pc := 77) (v := 2) dX10_yearGoes_77 rfl ?_
            refine zs_idivK (pc := 78) dX10_yearGoes_78 (by decide) ?_
            refine zs_goto (pc := 79) (tgt := 101) dX10_yearGoes_79 (by decide) ?_
            exact h101 (x20 / 2)
          · refine zs_aload_n (pc := 82) 0 dX10_yearGoes_82 rfl rfl ?_
            refine zm_geta (pc := 83) 48 30 (by decide) rfl q1581 dX10_yearGoes_83 ?_
            refine zs_iload_n (pc := 86) 1 dX10_yearGoes_86 rfl rfl ?_
            refine zm_iald (pc := 87) 48 30 zm_p48 dX10_yearGoes_87 (fun x17 => ?_)
            refine zs_aload_n (pc := 88) 0 dX10_yearGoes_88 rfl rfl ?_
            refine zm_geta (pc := 89) 51 31 (by decide) rfl q1584 dX10_yearGoes_89 ?_
            refine zs_iload_n (pc := 92) 1 dX10_yearGoes_92 rfl rfl ?_
            refine zm_iald (pc := 93) 51 31 zm_p51 dX10_yearGoes_93 (fun x18 => ?_)
            refine zs_iadd (pc := 94) dX10_yearGoes_94 ?_
            refine zs_iconst (pc := 95) (v := 0) dX10_yearGoes_95 rfl ?_
            refine zs_bipush (pc := 96) (v := 99) dX10_yearGoes_96 (by decide) ?_
            refine zs_callSrI (pc := 98) [.int (x17 + x18), .int 0, .int 99] [.int t45.1, .ref (m + (30 + 1))] (km_within D _ _ t45.2 (x17 + x18) 0 99) kv_within q1909 dX10_yearGoes_98 rfl rfl (Nat.le_of_ble_eq_true rfl) (Nat.le_of_ble_eq_true rfl) (fun x19 => ?_)
            exact h101 x19
      · refine zs_sub (lv' := [(0, .ref m)]) [0] rfl ?_
        exact hE45 t45.2
  · unfold gm_yearGoes_L2
    refine zs_iload_n (pc := 2) 1 dX10_yearGoes_2 rfl rfl ?_
    refine zs_aload_n (pc := 3) 0 dX10_yearGoes_3 rfl rfl ?_
    refine zm_geta (pc := 4) 22 8 (by decide) rfl q1555 dX10_yearGoes_4 ?_
    refine zs_aload_n (pc := 7) 0 dX10_yearGoes_7 rfl rfl ?_
    refine zm_geti (pc := 8) 18 (by decide) rfl q1551 dX10_yearGoes_8 ?_
    refine zm_iald (pc := 11) 22 8 zm_p22 dX10_yearGoes_11 (fun x1 => ?_)
    refine zs_icmp_ge (pc := 12) (tgt := 43) dX10_yearGoes_12 (by decide) ?_ ?_
    · refine zs_aload_n (pc := 15) 0 dX10_yearGoes_15 rfl rfl ?_
      refine zm_geta (pc := 16) 51 31 (by decide) rfl q1584 dX10_yearGoes_16 ?_
      refine zs_iload_n (pc := 19) 1 dX10_yearGoes_19 rfl rfl ?_
      refine zs_aload_n (pc := 20) 0 dX10_yearGoes_20 rfl rfl ?_
      refine zs_iload_n (pc := 21) 1 dX10_yearGoes_21 rfl rfl ?_
      refine zs_callVwI (pc := 22) [.int t2.1] [.int t2.1, .ref (m + (31 + 1))] (km_growsOf D h0 m t2.2 t2.1) kv_growsOf q1889 zc_X10 zm_recv dX10_yearGoes_22 rfl rfl (Nat.le_of_ble_eq_true rfl) (Nat.le_of_ble_eq_true rfl) (fun p2 => ?_)
      refine zm_iast (pc := 25) 51 31 zm_p51 dX10_yearGoes_25 (fun M3 => ?_)
      refine zs_aload_n (pc := 26) 0 dX10_yearGoes_26 rfl rfl ?_
      refine zm_geta (pc := 27) 52 32 (by decide) rfl q1585 dX10_yearGoes_27 ?_
      refine zs_iload_n (pc := 30) 1 dX10_yearGoes_30 rfl rfl ?_
      refine zs_aload_n (pc := 31) 0 dX10_yearGoes_31 rfl rfl ?_
      refine zs_iload_n (pc := 32) 1 dX10_yearGoes_32 rfl rfl ?_
      refine zs_callVwI (pc := 33) [.int t2.1] [.int t2.1, .ref (m + (32 + 1))] (km_weakensOf D h0 m M3 t2.1) kv_weakensOf q1912 zc_X10 zm_recv dX10_yearGoes_33 rfl rfl (Nat.le_of_ble_eq_true rfl) (Nat.le_of_ble_eq_true rfl) (fun p4 => ?_)
      refine zm_iast (pc := 36) 52 32 zm_p52 dX10_yearGoes_36 (fun M5 => ?_)
      refine zs_iinc (pc := 37) (lv' := [(0, .ref m), (1, .int (t2.1 + 1))]) 1 [1, 0] dX10_yearGoes_37 rfl rfl (by decide) rfl ?_
      refine zs_goto (pc := 40) (tgt := 2) dX10_yearGoes_40 (by decide) ?_
      exact hL2 ((t2.1 + 1), M5)
    · refine zs_sub (lv' := [(0, .ref m)]) [0] rfl ?_
      exact hE2 t2.2
theorem kv_goes : zs_mV RX10 yX10_goes cX10_goes 3 none 1 := ⟨q1996, qs107, q152, q1997, by decide, by decide +kernel⟩
def gm_goes_L2 (a1 : Int32) : (Int32 × zm_S) → Option ((Int32 × zm_S) ⊕ (zm_S)) := fun t2 =>
if t2.1 < a1 then ((gm_yearGoes t2.2).bind fun M1 =>
some (Sum.inl ((t2.1 + 1), M1)))
else (some (Sum.inr t2.2))
def gm_goes (M : zm_S) (a1 : Int32) : Option (zm_S) :=
(zs_loop 5000 (gm_goes_L2 a1) (0, M)).bind fun z => some z
set_option maxHeartbeats 4000000 in
theorem km_goes (D : zs_D) (h0 : zs_AH) (m : Nat) (M : zm_S) (a1 : Int32) : zs_Con D (zm_R h0 m) zm_bd zs_eV yX10_goes cX10_goes 3 none 5 [.ref m, .int a1] M ((gm_goes M a1).map fun x => ((), x)) := by
  unfold gm_goes
  refine zs_conV (own := RX10) (nm := "goes") pl_X10 rfl rfl (Nat.le_of_ble_eq_true rfl) ?_
  refine zs_lv (lv' := [(0, .ref m), (1, .int a1)]) rfl ?_
  refine zs_iconst (pc := 0) (v := 0) dX10_goes_0 rfl ?_
  refine zs_istore_n (pc := 1) (lv' := [(0, .ref m), (1, .int a1), (2, .int 0)]) [1, 2, 0] dX10_goes_1 rfl (by decide) rfl ?_
  refine zs_whileX (pc := 2) (fun (t2 : Int32 × zm_S) => t2.2) (fun (t2 : Int32 × zm_S) => [(0, .ref m), (1, .int a1), (2, .int t2.1)]) 5000 (0, M) (fun X2 hL2 hR2 t2 => ?_)
  unfold gm_goes_L2
  refine zs_iload_n (pc := 2) 2 dX10_goes_2 rfl rfl ?_
  refine zs_iload_n (pc := 3) 1 dX10_goes_3 rfl rfl ?_
  refine zs_icmp_ge (pc := 4) (tgt := 17) dX10_goes_4 (by decide) ?_ ?_
  · refine zs_aload_n (pc := 7) 0 dX10_goes_7 rfl rfl ?_
    refine zs_callVv (pc := 8) [] [] (km_yearGoes D h0 m t2.2) kv_yearGoes q1998 zc_X10 zm_recv dX10_goes_8 rfl rfl (Nat.le_of_ble_eq_true rfl) (Nat.le_of_ble_eq_true rfl) (fun M1 => ?_)
    refine zs_iinc (pc := 11) (lv' := [(0, .ref m), (1, .int a1), (2, .int (t2.1 + 1))]) 2 [1, 2, 0] dX10_goes_11 rfl rfl (by decide) rfl ?_
    refine zs_goto (pc := 14) (tgt := 2) dX10_goes_14 (by decide) ?_
    exact hL2 ((t2.1 + 1), M1)
  · exact zs_vret (pc := 17) dX10_goes_17 ((hR2 _).trans rfl) rfl
theorem kv_years : zs_mV RX10 yX10_years cX10_years 2 (some .int) 1 := ⟨q1988, q1989, q152, q1990, by decide, by decide +kernel⟩
def gm_years (M : zm_S) (a1 : Int32) : Option (Int32 × zm_S) :=
(gm_isLong a1).bind fun b1 =>
if b1 = true then (if a1 = 0 then ((zs_ald 33 (M.2.1 47) 31).bind fun x6 =>
some (x6, M))
else ((gm_copies M).bind fun M2 =>
(gm_goes M2 a1).bind fun M3 =>
(gm_records M3).bind fun M4 =>
(zs_ald 33 (M4.2.1 47) 31).bind fun x5 =>
some (x5, M4)))
else (some ((-1), M))
set_option maxHeartbeats 4000000 in
theorem km_years (D : zs_D) (h0 : zs_AH) (m : Nat) (M : zm_S) (a1 : Int32) : zs_Con D (zm_R h0 m) zm_bd zs_eI yX10_years cX10_years 2 (some .int) 6 [.ref m, .int a1] M (gm_years M a1) := by
  unfold gm_years
  refine zs_con (own := RX10) (nm := "years") pl_X10 rfl rfl (Nat.le_of_ble_eq_true rfl) ?_
  refine zs_lv (lv' := [(0, .ref m), (1, .int a1)]) rfl ?_
  refine zs_iload_n (pc := 0) 1 dX10_years_0 rfl rfl ?_
  refine zs_callSrB (pc := 1) [.int a1] [] (km_isLong D _ _ M a1) kv_isLong q1991 dX10_years_1 rfl rfl (Nat.le_of_ble_eq_true rfl) (Nat.le_of_ble_eq_true rfl) (fun b1 => ?_)
  refine zs_if_t (pc := 4) (tgt := 9) dX10_years_4 (by decide) ?_ ?_
  · refine zs_iload_n (pc := 9) 1 dX10_years_9 rfl rfl ?_
    refine zs_if_ne (pc := 10) (tgt := 21) dX10_years_10 (by decide) ?_ ?_
    · refine zs_aload_n (pc := 13) 0 dX10_years_13 rfl rfl ?_
      refine zm_geta (pc := 14) 47 29 (by decide) rfl q1580 dX10_years_14 ?_
      refine zs_bipush (pc := 17) (v := 31) dX10_years_17 (by decide) ?_
      refine zm_iald (pc := 19) 47 29 zm_p47 dX10_years_19 (fun x6 => ?_)
      exact zs_iret (pc := 20) dX10_years_20 rfl rfl rfl
    · refine zs_aload_n (pc := 21) 0 dX10_years_21 rfl rfl ?_
      refine zs_callVv (pc := 22) [] [] (km_copies D h0 m M) kv_copies q1873 zc_X10 zm_recv dX10_years_22 rfl rfl (Nat.le_of_ble_eq_true rfl) (Nat.le_of_ble_eq_true rfl) (fun M2 => ?_)
      refine zs_aload_n (pc := 25) 0 dX10_years_25 rfl rfl ?_
      refine zs_iload_n (pc := 26) 1 dX10_years_26 rfl rfl ?_
      refine zs_callVv (pc := 27) [.int a1] [] (km_goes D h0 m M2 a1) kv_goes q1994 zc_X10 zm_recv dX10_years_27 rfl rfl (Nat.le_of_ble_eq_true rfl) (Nat.le_of_ble_eq_true rfl) (fun M3 => ?_)
      refine zs_aload_n (pc := 30) 0 dX10_years_30 rfl rfl ?_
      refine zs_callVv (pc := 31) [] [] (km_records D h0 m M3) kv_records q1952 zc_X10 zm_recv dX10_years_31 rfl rfl (Nat.le_of_ble_eq_true rfl) (Nat.le_of_ble_eq_true rfl) (fun M4 => ?_)
      refine zs_aload_n (pc := 34) 0 dX10_years_34 rfl rfl ?_
      refine zm_geta (pc := 35) 47 29 (by decide) rfl q1580 dX10_years_35 ?_
      refine zs_bipush (pc := 38) (v := 31) dX10_years_38 (by decide) ?_
      refine zm_iald (pc := 40) 47 29 zm_p47 dX10_years_40 (fun x5 => ?_)
      exact zs_iret (pc := 41) dX10_years_41 rfl rfl rfl
  · refine zs_iconst (pc := 7) (v := (-1)) dX10_years_7 rfl ?_
    exact zs_iret (pc := 8) dX10_years_8 rfl rfl rfl
theorem kv_undo : zs_mV RX10 yX10_undo cX10_undo 2 (some .boolean) 0 := ⟨q2015, q2016, q152, q2017, by decide, by decide +kernel⟩
def gm_undo_L21 : (Int32 × zm_S) → Option ((Int32 × zm_S) ⊕ (Bool × zm_S)) := fun t21 =>
if t21.1 < 33 then ((zs_ald 1320 (t21.2.2.1 54) ((33 * (t21.2.1 53)) + t21.1)).bind fun x2 =>
(zs_ast 33 t21.1 (zm_sA t21.2 47 t21.1 x2)).bind fun M3 =>
some (Sum.inl ((t21.1 + 1), M3)))
else (some (Sum.inr (true, t21.2)))
def gm_undo (M : zm_S) : Option (Bool × zm_S) :=
if (M.1 53) = 0 then (some (false, M))
else ((some (zm_sF M 53 ((M.1 53) - 1))).bind fun M1 =>
(zs_loop 5000 gm_undo_L21 (0, M1)).bind fun z => some z)
set_option maxHeartbeats 4000000 in
theorem km_undo (D : zs_D) (h0 : zs_AH) (m : Nat) (M : zm_S) : zs_Con D (zm_R h0 m) zm_bd zs_eB yX10_undo cX10_undo 2 (some .boolean) 0 [.ref m] M (gm_undo M) := by
  unfold gm_undo
  refine zs_con (own := RX10) (nm := "undo") pl_X10 rfl rfl (Nat.le_of_ble_eq_true rfl) ?_
  refine zs_lv (lv' := [(0, .ref m)]) rfl ?_
  refine zs_aload_n (pc := 0) 0 dX10_undo_0 rfl rfl ?_
  refine zm_geti (pc := 1) 53 (by decide) rfl q1586 dX10_undo_1 ?_
  refine zs_if_ne (pc := 4) (tgt := 9) dX10_undo_4 (by decide) ?_ ?_
  · refine zs_iconst (pc := 7) (v := 0) dX10_undo_7 rfl ?_
    exact zs_iret (pc := 8) dX10_undo_8 rfl rfl rfl
  · refine zs_aload_n (pc := 9) 0 dX10_undo_9 rfl rfl ?_
    refine zs_dup (pc := 10) dX10_undo_10 rfl ?_
    refine zm_geti (pc := 11) 53 (by decide) rfl q1586 dX10_undo_11 ?_
    refine zs_iconst (pc := 14) (v := 1) dX10_undo_14 rfl ?_
    refine zs_isub (pc := 15) dX10_undo_15 ?_
    refine zm_puti (pc := 16) 53 (by decide) rfl q1586 rfl rfl rfl dX10_undo_16 ?_
    refine zs_nmM (fun M1 => ?_)
    refine zs_iconst (pc := 19) (v := 0) dX10_undo_19 rfl ?_
    refine zs_istore_n (pc := 20) (lv' := [(0, .ref m), (1, .int 0)]) [1, 0] dX10_undo_20 rfl (by decide) rfl ?_
    refine zs_whileX (pc := 21) (fun (t21 : Int32 × zm_S) => t21.2) (fun (t21 : Int32 × zm_S) => [(0, .ref m), (1, .int t21.1)]) 5000 (0, M1) (fun X21 hL21 hR21 t21 => ?_)
    unfold gm_undo_L21
    refine zs_iload_n (pc := 21) 1 dX10_undo_21 rfl rfl ?_
    refine zs_bipush (pc := 22) (v := 33) dX10_undo_22 (by decide) ?_
    refine zs_icmp_ge (pc := 24) (tgt := 53) dX10_undo_24 (by decide) ?_ ?_
    · refine zs_aload_n (pc := 27) 0 dX10_undo_27 rfl rfl ?_
      refine zm_geta (pc := 28) 47 29 (by decide) rfl q1580 dX10_undo_28 ?_
      refine zs_iload_n (pc := 31) 1 dX10_undo_31 rfl rfl ?_
      refine zs_aload_n (pc := 32) 0 dX10_undo_32 rfl rfl ?_
      refine zm_geta (pc := 33) 54 33 (by decide) rfl q1587 dX10_undo_33 ?_
      refine zs_bipush (pc := 36) (v := 33) dX10_undo_36 (by decide) ?_
      refine zs_aload_n (pc := 38) 0 dX10_undo_38 rfl rfl ?_
      refine zm_geti (pc := 39) 53 (by decide) rfl q1586 dX10_undo_39 ?_
      refine zs_imul (pc := 42) dX10_undo_42 ?_
      refine zs_iload_n (pc := 43) 1 dX10_undo_43 rfl rfl ?_
      refine zs_iadd (pc := 44) dX10_undo_44 ?_
      refine zm_iald (pc := 45) 54 33 zm_p54 dX10_undo_45 (fun x2 => ?_)
      refine zm_iast (pc := 46) 47 29 zm_p47 dX10_undo_46 (fun M3 => ?_)
      refine zs_iinc (pc := 47) (lv' := [(0, .ref m), (1, .int (t21.1 + 1))]) 1 [1, 0] dX10_undo_47 rfl rfl (by decide) rfl ?_
      refine zs_goto (pc := 50) (tgt := 21) dX10_undo_50 (by decide) ?_
      exact hL21 ((t21.1 + 1), M3)
    · refine zs_iconst (pc := 53) (v := 1) dX10_undo_53 rfl ?_
      exact zs_iret (pc := 54) dX10_undo_54 ((hR21 _).trans rfl) rfl rfl
theorem kv_spareLeast : zs_mV RX10 yX10_spareLeast cX10_spareLeast 3 (some .int) 0 := ⟨q2028, qs112, q152, q2029, by decide, by decide +kernel⟩
def gm_spareLeast_L6 : (Int32 × Int32 × zm_S) → Option ((Int32 × Int32 × zm_S) ⊕ (Int32 × zm_S)) := fun t6 =>
(zs_ald 33 (t6.2.2.2.1 48) 24).bind fun x1 =>
if t6.2.1 < (2 * x1) then ((gm_spareAt t6.2.2 t6.2.1).bind fun p2 =>
(if p2.1 < t6.1 then ((gm_spareAt p2.2 t6.2.1).bind fun p4 =>
some (p4.1, p4.2))
else (some (t6.1, p2.2))).bind fun (p3 : Int32 × zm_S) =>
some (Sum.inl (p3.1, (t6.2.1 + 1), p3.2)))
else (some (Sum.inr (t6.1, t6.2.2)))
def gm_spareLeast (M : zm_S) : Option (Int32 × zm_S) :=
(zs_loop 5000 gm_spareLeast_L6 (9999, 0, M)).bind fun z => some z
set_option maxHeartbeats 4000000 in
theorem km_spareLeast (D : zs_D) (h0 : zs_AH) (m : Nat) (M : zm_S) : zs_Con D (zm_R h0 m) zm_bd zs_eI yX10_spareLeast cX10_spareLeast 3 (some .int) 6 [.ref m] M (gm_spareLeast M) := by
  unfold gm_spareLeast
  refine zs_con (own := RX10) (nm := "spareLeast") pl_X10 rfl rfl (Nat.le_of_ble_eq_true rfl) ?_
  refine zs_lv (lv' := [(0, .ref m)]) rfl ?_
  refine zs_sipush (pc := 0) (v := 9999) dX10_spareLeast_0 (by decide) ?_
  refine zs_istore_n (pc := 3) (lv' := [(0, .ref m), (1, .int 9999)]) [1, 0] dX10_spareLeast_3 rfl (by decide) rfl ?_
  refine zs_iconst (pc := 4) (v := 0) dX10_spareLeast_4 rfl ?_
  refine zs_istore_n (pc := 5) (lv' := [(0, .ref m), (1, .int 9999), (2, .int 0)]) [1, 2, 0] dX10_spareLeast_5 rfl (by decide) rfl ?_
  refine zs_whileX (pc := 6) (fun (t6 : Int32 × Int32 × zm_S) => t6.2.2) (fun (t6 : Int32 × Int32 × zm_S) => [(0, .ref m), (1, .int t6.1), (2, .int t6.2.1)]) 5000 (9999, 0, M) (fun X6 hL6 hR6 t6 => ?_)
  unfold gm_spareLeast_L6
  refine zs_iload_n (pc := 6) 2 dX10_spareLeast_6 rfl rfl ?_
  refine zs_iconst (pc := 7) (v := 2) dX10_spareLeast_7 rfl ?_
  refine zs_aload_n (pc := 8) 0 dX10_spareLeast_8 rfl rfl ?_
  refine zm_geta (pc := 9) 48 30 (by decide) rfl q1581 dX10_spareLeast_9 ?_
  refine zs_bipush (pc := 12) (v := 24) dX10_spareLeast_12 (by decide) ?_
  refine zm_iald (pc := 14) 48 30 zm_p48 dX10_spareLeast_14 (fun x1 => ?_)
  refine zs_imul (pc := 15) dX10_spareLeast_15 ?_
  refine zs_icmp_ge (pc := 16) (tgt := 40) dX10_spareLeast_16 (by decide) ?_ ?_
  · refine zs_aload_n (pc := 19) 0 dX10_spareLeast_19 rfl rfl ?_
    refine zs_iload_n (pc := 20) 2 dX10_spareLeast_20 rfl rfl ?_
    refine zs_callVwI (pc := 21) [.int t6.2.1] [] (km_spareAt D h0 m t6.2.2 t6.2.1) kv_spareAt q1979 zc_X10 zm_recv dX10_spareLeast_21 rfl rfl (Nat.le_of_ble_eq_true rfl) (Nat.le_of_ble_eq_true rfl) (fun p2 => ?_)
    refine zs_iload_n (pc := 24) 1 dX10_spareLeast_24 rfl rfl ?_
    refine zs_join (pc := 25) (fun (p3 : Int32 × zm_S) => p3.2) 34 (fun (p3 : Int32 × zm_S) => [(0, .ref m), (1, .int p3.1), (2, .int t6.2.1)]) (fun (p3 : Int32 × zm_S) => []) (fun p3 => ?_) (fun h34 => ?_)
    · refine zs_iinc (pc := 34) (lv' := [(0, .ref m), (1, .int p3.1), (2, .int (t6.2.1 + 1))]) 2 [1, 2, 0] dX10_spareLeast_34 rfl rfl (by decide) rfl ?_
      refine zs_goto (pc := 37) (tgt := 6) dX10_spareLeast_37 (by decide) ?_
      exact hL6 (p3.1, (t6.2.1 + 1), p3.2)
    · refine zs_icmp_ge (pc := 25) (tgt := 34) dX10_spareLeast_25 (by decide) ?_ ?_
      · refine zs_aload_n (pc := 28) 0 dX10_spareLeast_28 rfl rfl ?_
        refine zs_iload_n (pc := 29) 2 dX10_spareLeast_29 rfl rfl ?_
        refine zs_callVwI (pc := 30) [.int t6.2.1] [] (km_spareAt D h0 m p2.2 t6.2.1) kv_spareAt q1979 zc_X10 zm_recv dX10_spareLeast_30 rfl rfl (Nat.le_of_ble_eq_true rfl) (Nat.le_of_ble_eq_true rfl) (fun p4 => ?_)
        refine zs_istore_n (pc := 33) (lv' := [(0, .ref m), (1, .int p4.1), (2, .int t6.2.1)]) [1, 0, 2] dX10_spareLeast_33 rfl (by decide) rfl ?_
        exact h34 (p4.1, p4.2)
      · exact h34 (t6.1, p2.2)
  · refine zs_iload_n (pc := 40) 1 dX10_spareLeast_40 rfl rfl ?_
    exact zs_iret (pc := 41) dX10_spareLeast_41 ((hR6 _).trans rfl) rfl rfl
theorem kv_mostOf : zs_mV RX10 yX10_mostOf cX10_mostOf 2 (some .int) 0 := ⟨q2024, qs111, q152, q2025, by decide, by decide +kernel⟩
def gm_mostOf (M : zm_S) : Option (Int32 × zm_S) :=
(gm_spareLeast M).bind fun p1 =>
if p1.1 < 0 then (some ((-2), p1.2))
else (if 999 < p1.1 then (some (999, p1.2))
else (some (p1.1, p1.2)))
set_option maxHeartbeats 4000000 in
theorem km_mostOf (D : zs_D) (h0 : zs_AH) (m : Nat) (M : zm_S) : zs_Con D (zm_R h0 m) zm_bd zs_eI yX10_mostOf cX10_mostOf 2 (some .int) 7 [.ref m] M (gm_mostOf M) := by
  unfold gm_mostOf
  refine zs_con (own := RX10) (nm := "mostOf") pl_X10 rfl rfl (Nat.le_of_ble_eq_true rfl) ?_
  refine zs_lv (lv' := [(0, .ref m)]) rfl ?_
  refine zs_aload_n (pc := 0) 0 dX10_mostOf_0 rfl rfl ?_
  refine zs_callVwI (pc := 1) [] [] (km_spareLeast D h0 m M) kv_spareLeast q2026 zc_X10 zm_recv dX10_mostOf_1 rfl rfl (Nat.le_of_ble_eq_true rfl) (Nat.le_of_ble_eq_true rfl) (fun p1 => ?_)
  refine zs_istore_n (pc := 4) (lv' := [(0, .ref m), (1, .int p1.1)]) [1, 0] dX10_mostOf_4 rfl (by decide) rfl ?_
  refine zs_iload_n (pc := 5) 1 dX10_mostOf_5 rfl rfl ?_
  refine zs_if_ge (pc := 6) (tgt := 14) dX10_mostOf_6 (by decide) ?_ ?_
  · refine zs_bipush (pc := 9) (v := (-2)) dX10_mostOf_9 (by decide) ?_
    refine zs_goto (pc := 11) (tgt := 28) dX10_mostOf_11 (by decide) ?_
    exact zs_iret (pc := 28) dX10_mostOf_28 rfl rfl rfl
  · refine zs_iload_n (pc := 14) 1 dX10_mostOf_14 rfl rfl ?_
    refine zs_sipush (pc := 15) (v := 999) dX10_mostOf_15 (by decide) ?_
    refine zs_icmp_le (pc := 18) (tgt := 27) dX10_mostOf_18 (by decide) ?_ ?_
    · refine zs_sipush (pc := 21) (v := 999) dX10_mostOf_21 (by decide) ?_
      refine zs_goto (pc := 24) (tgt := 28) dX10_mostOf_24 (by decide) ?_
      exact zs_iret (pc := 28) dX10_mostOf_28 rfl rfl rfl
    · refine zs_iload_n (pc := 27) 1 dX10_mostOf_27 rfl rfl ?_
      exact zs_iret (pc := 28) dX10_mostOf_28 rfl rfl rfl
theorem kv_most : zs_mV RX10 yX10_most cX10_most 1 (some .int) 0 := ⟨q2019, q2020, q152, q2021, by decide, by decide +kernel⟩
def gm_most (M : zm_S) : Option (Int32 × zm_S) :=
(gm_copies M).bind fun M1 =>
(gm_mostOf M1).bind fun p2 =>
some (p2.1, p2.2)
set_option maxHeartbeats 4000000 in
theorem km_most (D : zs_D) (h0 : zs_AH) (m : Nat) (M : zm_S) : zs_Con D (zm_R h0 m) zm_bd zs_eI yX10_most cX10_most 1 (some .int) 8 [.ref m] M (gm_most M) := by
  unfold gm_most
  refine zs_con (own := RX10) (nm := "most") pl_X10 rfl rfl (Nat.le_of_ble_eq_true rfl) ?_
  refine zs_lv (lv' := [(0, .ref m)]) rfl ?_
  refine zs_aload_n (pc := 0) 0 dX10_most_0 rfl rfl ?_
  refine zs_callVv (pc := 1) [] [] (km_copies D h0 m M) kv_copies q1873 zc_X10 zm_recv dX10_most_1 rfl rfl (Nat.le_of_ble_eq_true rfl) (Nat.le_of_ble_eq_true rfl) (fun M1 => ?_)
  refine zs_aload_n (pc := 4) 0 dX10_most_4 rfl rfl ?_
  refine zs_callVwI (pc := 5) [] [] (km_mostOf D h0 m M1) kv_mostOf q2022 zc_X10 zm_recv dX10_most_5 rfl rfl (Nat.le_of_ble_eq_true rfl) (Nat.le_of_ble_eq_true rfl) (fun p2 => ?_)
  exact zs_iret (pc := 8) dX10_most_8 rfl rfl rfl
theorem kv_weakest : zs_mV RX10 yX10_weakest cX10_weakest 3 (some .int) 1 := ⟨q2031, q2032, q152, q2033, by decide, by decide +kernel⟩
def gm_weakest (M : zm_S) (a1 : Int32) : Option (Int32 × zm_S) :=
(gm_in a1 0 1).bind fun b1 =>
if b1 = true then ((gm_copies M).bind fun M2 =>
(gm_mostOf M2).bind fun p3 =>
(if p3.1 < 0 then (some (0, p3.2))
else ((gm_mostOf p3.2).bind fun p6 =>
some ((p6.1 + 1), p6.2))).bind fun (p4 : Int32 × zm_S) =>
(gm_breaksAt p4.2 p4.1).bind fun p5 =>
if p5.1 < 0 then (some ((-2), p5.2))
else (if a1 = 0 then (some ((p5.1 / 2), p5.2))
else (some ((1 - (zs_rem p5.1 2)), p5.2))))
else (some ((-1), M))
set_option maxHeartbeats 4000000 in
theorem km_weakest (D : zs_D) (h0 : zs_AH) (m : Nat) (M : zm_S) (a1 : Int32) : zs_Con D (zm_R h0 m) zm_bd zs_eI yX10_weakest cX10_weakest 3 (some .int) 8 [.ref m, .int a1] M (gm_weakest M a1) := by
  unfold gm_weakest
  refine zs_con (own := RX10) (nm := "weakest") pl_X10 rfl rfl (Nat.le_of_ble_eq_true rfl) ?_
  refine zs_lv (lv' := [(0, .ref m), (1, .int a1)]) rfl ?_
  refine zs_iload_n (pc := 0) 1 dX10_weakest_0 rfl rfl ?_
  refine zs_iconst (pc := 1) (v := 0) dX10_weakest_1 rfl ?_
  refine zs_iconst (pc := 2) (v := 1) dX10_weakest_2 rfl ?_
  refine zs_callSrB (pc := 3) [.int a1, .int 0, .int 1] [] (km_in D _ _ M a1 0 1) kv_in q1870 dX10_weakest_3 rfl rfl (Nat.le_of_ble_eq_true rfl) (Nat.le_of_ble_eq_true rfl) (fun b1 => ?_)
  refine zs_if_t (pc := 6) (tgt := 11) dX10_weakest_6 (by decide) ?_ ?_
  · refine zs_aload_n (pc := 11) 0 dX10_weakest_11 rfl rfl ?_
    refine zs_callVv (pc := 12) [] [] (km_copies D h0 m M) kv_copies q1873 zc_X10 zm_recv dX10_weakest_12 rfl rfl (Nat.le_of_ble_eq_true rfl) (Nat.le_of_ble_eq_true rfl) (fun M2 => ?_)
    refine zs_aload_n (pc := 15) 0 dX10_weakest_15 rfl rfl ?_
    refine zs_aload_n (pc := 16) 0 dX10_weakest_16 rfl rfl ?_
    refine zs_callVwI (pc := 17) [] [.ref m] (km_mostOf D h0 m M2) kv_mostOf q2022 zc_X10 zm_recv dX10_weakest_17 rfl rfl (Nat.le_of_ble_eq_true rfl) (Nat.le_of_ble_eq_true rfl) (fun p3 => ?_)
    refine zs_join (pc := 20) (fun (p4 : Int32 × zm_S) => p4.2) 33 (fun (p4 : Int32 × zm_S) => [(1, .int a1)]) (fun (p4 : Int32 × zm_S) => [.int p4.1, .ref m]) (fun p4 => ?_) (fun h33 => ?_)
    · refine zs_callVwI (pc := 33) [.int p4.1] [] (km_breaksAt D h0 m p4.2 p4.1) kv_breaksAt q1975 zc_X10 zm_recv dX10_weakest_33 rfl rfl (Nat.le_of_ble_eq_true rfl) (Nat.le_of_ble_eq_true rfl) (fun p5 => ?_)
      refine zs_istore_n (pc := 36) (lv' := [(1, .int a1), (2, .int p5.1)]) [1, 0] dX10_weakest_36 rfl (by decide) rfl ?_
      refine zs_iload_n (pc := 37) 1 dX10_weakest_37 rfl rfl ?_
      refine zs_if_ge (pc := 38) (tgt := 46) dX10_weakest_38 (by decide) ?_ ?_
      · refine zs_bipush (pc := 41) (v := (-2)) dX10_weakest_41 (by decide) ?_
        refine zs_goto (pc := 43) (tgt := 61) dX10_weakest_43 (by decide) ?_
        exact zs_iret (pc := 61) dX10_weakest_61 rfl rfl rfl
      · refine zs_iload_n (pc := 46) 0 dX10_weakest_46 rfl rfl ?_
        refine zs_if_ne (pc := 47) (tgt := 56) dX10_weakest_47 (by decide) ?_ ?_
        · refine zs_iload_n (pc := 50) 1 dX10_weakest_50 rfl rfl ?_
          refine zs_iconst (pc := 51) (v := 2) dX10_weakest_51 rfl ?_
          refine zs_idivK (pc := 52) dX10_weakest_52 (by decide) ?_
          refine zs_goto (pc := 53) (tgt := 61) dX10_weakest_53 (by decide) ?_
          exact zs_iret (pc := 61) dX10_weakest_61 rfl rfl rfl
        · refine zs_iconst (pc := 56) (v := 1) dX10_weakest_56 rfl ?_
          refine zs_iload_n (pc := 57) 1 dX10_weakest_57 rfl rfl ?_
          refine zs_iconst (pc := 58) (v := 2) dX10_weakest_58 rfl ?_
          refine zs_iremK (pc := 59) dX10_weakest_59 (by decide) ?_
          refine zs_isub (pc := 60) dX10_weakest_60 ?_
          exact zs_iret (pc := 61) dX10_weakest_61 rfl rfl rfl
    · refine zs_if_ge (pc := 20) (tgt := 27) dX10_weakest_20 (by decide) ?_ ?_
      · refine zs_iconst (pc := 23) (v := 0) dX10_weakest_23 rfl ?_
        refine zs_goto (pc := 24) (tgt := 33) dX10_weakest_24 (by decide) ?_
        refine zs_sub (lv' := [(1, .int a1)]) [1] rfl ?_
        exact h33 (0, p3.2)
      · refine zs_aload_n (pc := 27) 0 dX10_weakest_27 rfl rfl ?_
        refine zs_callVwI (pc := 28) [] [.ref m] (km_mostOf D h0 m p3.2) kv_mostOf q2022 zc_X10 zm_recv dX10_weakest_28 rfl rfl (Nat.le_of_ble_eq_true rfl) (Nat.le_of_ble_eq_true rfl) (fun p6 => ?_)
        refine zs_iconst (pc := 31) (v := 1) dX10_weakest_31 rfl ?_
        refine zs_iadd (pc := 32) dX10_weakest_32 ?_
        refine zs_sub (lv' := [(1, .int a1)]) [1] rfl ?_
        exact h33 ((p6.1 + 1), p6.2)
  · refine zs_iconst (pc := 9) (v := (-1)) dX10_weakest_9 rfl ?_
    exact zs_iret (pc := 10) dX10_weakest_10 rfl rfl rfl
theorem kv_below : zs_mV RX10 yX10_below cX10_below 2 (some .int) 1 := ⟨q2035, q2036, q152, q2037, by decide, by decide +kernel⟩
def gm_below (M : zm_S) (a1 : Int32) : Option (Int32 × zm_S) :=
(gm_copies M).bind fun M1 =>
(zs_ald 33 (M1.2.1 48) 24).bind fun x2 =>
(gm_in a1 0 (x2 - 1)).bind fun b3 =>
if b3 = true then ((gm_belowOf M1 a1).bind fun x4 =>
some (x4, M1))
else (some ((-1), M1))
set_option maxHeartbeats 4000000 in
theorem km_below (D : zs_D) (h0 : zs_AH) (m : Nat) (M : zm_S) (a1 : Int32) : zs_Con D (zm_R h0 m) zm_bd zs_eI yX10_below cX10_below 2 (some .int) 1 [.ref m, .int a1] M (gm_below M a1) := by
  unfold gm_below
  refine zs_con (own := RX10) (nm := "below") pl_X10 rfl rfl (Nat.le_of_ble_eq_true rfl) ?_
  refine zs_lv (lv' := [(0, .ref m), (1, .int a1)]) rfl ?_
  refine zs_aload_n (pc := 0) 0 dX10_below_0 rfl rfl ?_
  refine zs_callVv (pc := 1) [] [] (km_copies D h0 m M) kv_copies q1873 zc_X10 zm_recv dX10_below_1 rfl rfl (Nat.le_of_ble_eq_true rfl) (Nat.le_of_ble_eq_true rfl) (fun M1 => ?_)
  refine zs_iload_n (pc := 4) 1 dX10_below_4 rfl rfl ?_
  refine zs_iconst (pc := 5) (v := 0) dX10_below_5 rfl ?_
  refine zs_aload_n (pc := 6) 0 dX10_below_6 rfl rfl ?_
  refine zm_geta (pc := 7) 48 30 (by decide) rfl q1581 dX10_below_7 ?_
  refine zs_bipush (pc := 10) (v := 24) dX10_below_10 (by decide) ?_
  refine zm_iald (pc := 12) 48 30 zm_p48 dX10_below_12 (fun x2 => ?_)
  refine zs_iconst (pc := 13) (v := 1) dX10_below_13 rfl ?_
  refine zs_isub (pc := 14) dX10_below_14 ?_
  refine zs_callSrB (pc := 15) [.int a1, .int 0, .int (x2 - 1)] [] (km_in D _ _ M1 a1 0 (x2 - 1)) kv_in q1870 dX10_below_15 rfl rfl (Nat.le_of_ble_eq_true rfl) (Nat.le_of_ble_eq_true rfl) (fun b3 => ?_)
  refine zs_if_f (pc := 18) (tgt := 29) dX10_below_18 (by decide) ?_ ?_
  · refine zs_aload_n (pc := 21) 0 dX10_below_21 rfl rfl ?_
    refine zs_iload_n (pc := 22) 1 dX10_below_22 rfl rfl ?_
    refine zs_callVrI (pc := 23) [.int a1] [] (km_belowOf D h0 m M1 a1) kv_belowOf q1983 zc_X10 zm_recv dX10_below_23 rfl rfl (Nat.le_of_ble_eq_true rfl) (Nat.le_of_ble_eq_true rfl) (fun x4 => ?_)
    refine zs_goto (pc := 26) (tgt := 30) dX10_below_26 (by decide) ?_
    exact zs_iret (pc := 30) dX10_below_30 rfl rfl rfl
  · refine zs_iconst (pc := 29) (v := (-1)) dX10_below_29 rfl ?_
    exact zs_iret (pc := 30) dX10_below_30 rfl rfl rfl
theorem kv_copiesStill : zs_mV RX10 yX10_copiesStill cX10_copiesStill 1 none 0 := ⟨q2044, qs113, q152, q2045, by decide, by decide +kernel⟩
def gm_copiesStill (M : zm_S) : Option (zm_S) :=
(gm_copies M).bind fun M1 =>
(some (zm_sF M1 50 1)).bind fun M2 =>
some M2
set_option maxHeartbeats 4000000 in
theorem km_copiesStill (D : zs_D) (h0 : zs_AH) (m : Nat) (M : zm_S) : zs_Con D (zm_R h0 m) zm_bd zs_eV yX10_copiesStill cX10_copiesStill 1 none 1 [.ref m] M ((gm_copiesStill M).map fun x => ((), x)) := by
  unfold gm_copiesStill
  refine zs_conV (own := RX10) (nm := "copiesStill") pl_X10 rfl rfl (Nat.le_of_ble_eq_true rfl) ?_
  refine zs_lv (lv' := [(0, .ref m)]) rfl ?_
  refine zs_aload_n (pc := 0) 0 dX10_copiesStill_0 rfl rfl ?_
  refine zs_callVv (pc := 1) [] [] (km_copies D h0 m M) kv_copies q1873 zc_X10 zm_recv dX10_copiesStill_1 rfl rfl (Nat.le_of_ble_eq_true rfl) (Nat.le_of_ble_eq_true rfl) (fun M1 => ?_)
  refine zs_aload_n (pc := 4) 0 dX10_copiesStill_4 rfl rfl ?_
  refine zs_iconst (pc := 5) (v := 1) dX10_copiesStill_5 rfl ?_
  refine zm_puti (pc := 6) 50 (by decide) rfl q1583 rfl rfl rfl dX10_copiesStill_6 ?_
  refine zs_nmM (fun M2 => ?_)
  exact zs_vret (pc := 9) dX10_copiesStill_9 rfl rfl
theorem kv_lasts : zs_mV RX10 yX10_lasts cX10_lasts 3 (some .int) 1 := ⟨q2039, q2040, q152, q2041, by decide, by decide +kernel⟩
def gm_lasts_L15 (a1 : Int32) : (Int32 × zm_S) → Option ((Int32 × zm_S) ⊕ (Int32 × zm_S)) := fun t15 =>
if 60 < t15.1 then (some (Sum.inr ((-2), t15.2)))
else ((gm_breaksAt t15.2 a1).bind fun p3 =>
if p3.1 < 0 then ((gm_yearGoes p3.2).bind fun M4 =>
some (Sum.inl ((t15.1 + 1), M4)))
else (some (Sum.inr (t15.1, p3.2))))
def gm_lasts (M : zm_S) (a1 : Int32) : Option (Int32 × zm_S) :=
(gm_isWeight a1).bind fun b1 =>
if b1 = true then ((gm_copiesStill M).bind fun M2 =>
(zs_loop 5000 (gm_lasts_L15 a1) (0, M2)).bind fun z => some z)
else (some ((-1), M))
set_option maxHeartbeats 4000000 in
theorem km_lasts (D : zs_D) (h0 : zs_AH) (m : Nat) (M : zm_S) (a1 : Int32) : zs_Con D (zm_R h0 m) zm_bd zs_eI yX10_lasts cX10_lasts 3 (some .int) 7 [.ref m, .int a1] M (gm_lasts M a1) := by
  unfold gm_lasts
  refine zs_con (own := RX10) (nm := "lasts") pl_X10 rfl rfl (Nat.le_of_ble_eq_true rfl) ?_
  refine zs_lv (lv' := [(0, .ref m), (1, .int a1)]) rfl ?_
  refine zs_iload_n (pc := 0) 1 dX10_lasts_0 rfl rfl ?_
  refine zs_callSrB (pc := 1) [.int a1] [] (km_isWeight D _ _ M a1) kv_isWeight q1972 dX10_lasts_1 rfl rfl (Nat.le_of_ble_eq_true rfl) (Nat.le_of_ble_eq_true rfl) (fun b1 => ?_)
  refine zs_if_t (pc := 4) (tgt := 9) dX10_lasts_4 (by decide) ?_ ?_
  · refine zs_aload_n (pc := 9) 0 dX10_lasts_9 rfl rfl ?_
    refine zs_callVv (pc := 10) [] [] (km_copiesStill D h0 m M) kv_copiesStill q2042 zc_X10 zm_recv dX10_lasts_10 rfl rfl (Nat.le_of_ble_eq_true rfl) (Nat.le_of_ble_eq_true rfl) (fun M2 => ?_)
    refine zs_iconst (pc := 13) (v := 0) dX10_lasts_13 rfl ?_
    refine zs_istore_n (pc := 14) (lv' := [(0, .ref m), (1, .int a1), (2, .int 0)]) [1, 2, 0] dX10_lasts_14 rfl (by decide) rfl ?_
    refine zs_whileX (pc := 15) (fun (t15 : Int32 × zm_S) => t15.2) (fun (t15 : Int32 × zm_S) => [(0, .ref m), (1, .int a1), (2, .int t15.1)]) 5000 (0, M2) (fun X15 hL15 hR15 t15 => ?_)
    unfold gm_lasts_L15
    refine zs_iload_n (pc := 15) 2 dX10_lasts_15 rfl rfl ?_
    refine zs_bipush (pc := 16) (v := 60) dX10_lasts_16 (by decide) ?_
    refine zs_icmp_gt (pc := 18) (tgt := 41) dX10_lasts_18 (by decide) ?_ ?_
    · refine zs_bipush (pc := 41) (v := (-2)) dX10_lasts_41 (by decide) ?_
      exact zs_iret (pc := 43) dX10_lasts_43 ((hR15 _).trans rfl) rfl rfl
    · refine zs_aload_n (pc := 21) 0 dX10_lasts_21 rfl rfl ?_
      refine zs_iload_n (pc := 22) 1 dX10_lasts_22 rfl rfl ?_
      refine zs_callVwI (pc := 23) [.int a1] [] (km_breaksAt D h0 m t15.2 a1) kv_breaksAt q1975 zc_X10 zm_recv dX10_lasts_23 rfl rfl (Nat.le_of_ble_eq_true rfl) (Nat.le_of_ble_eq_true rfl) (fun p3 => ?_)
      refine zs_if_lt (pc := 26) (tgt := 31) dX10_lasts_26 (by decide) ?_ ?_
      · refine zs_aload_n (pc := 31) 0 dX10_lasts_31 rfl rfl ?_
        refine zs_callVv (pc := 32) [] [] (km_yearGoes D h0 m p3.2) kv_yearGoes q1998 zc_X10 zm_recv dX10_lasts_32 rfl rfl (Nat.le_of_ble_eq_true rfl) (Nat.le_of_ble_eq_true rfl) (fun M4 => ?_)
        refine zs_iinc (pc := 35) (lv' := [(0, .ref m), (1, .int a1), (2, .int (t15.1 + 1))]) 2 [1, 2, 0] dX10_lasts_35 rfl rfl (by decide) rfl ?_
        refine zs_goto (pc := 38) (tgt := 15) dX10_lasts_38 (by decide) ?_
        exact hL15 ((t15.1 + 1), M4)
      · refine zs_iload_n (pc := 29) 2 dX10_lasts_29 rfl rfl ?_
        exact zs_iret (pc := 30) dX10_lasts_30 ((hR15 _).trans rfl) rfl rfl
  · refine zs_iconst (pc := 7) (v := (-1)) dX10_lasts_7 rfl ?_
    exact zs_iret (pc := 8) dX10_lasts_8 rfl rfl rfl
theorem kv_quarrel : zs_mV RX10 yX10_quarrel cX10_quarrel 6 (some .int) 1 := ⟨q2047, q2048, q152, q2049, by decide, by decide +kernel⟩
def gm_quarrel_L24 : (Int32 × Int32 × Int32 × zm_S) → Option ((Int32 × Int32 × Int32 × zm_S) ⊕ (Int32 × Int32 × zm_S)) := fun t24 =>
(zs_ald 33 (t24.2.2.2.2.1 48) 24).bind fun x3 =>
if t24.2.2.1 < x3 then ((zs_ald 33 (t24.2.2.2.2.1 48) (24 + t24.2.2.1)).bind fun x4 =>
(zs_ald 33 (t24.2.2.2.2.1 48) (25 + t24.2.2.1)).bind fun x5 =>
(gm_joinsOf t24.2.2.2 x4 x5).bind fun p6 =>
(zs_let (fun (p8 : Unit) => some (t24.2.2.1, p6.1)) fun J75 =>
if t24.1 < 0 then (J75 ())
else (if p6.1 < t24.2.1 then (J75 ())
else (some (t24.1, t24.2.1)))).bind fun (p7 : Int32 × Int32) =>
some (Sum.inl (p7.1, p7.2, (t24.2.2.1 + 1), p6.2)))
else (some (Sum.inr (t24.1, t24.2.1, t24.2.2.2)))
def gm_quarrel (M : zm_S) (a1 : Int32) : Option (Int32 × zm_S) :=
(gm_in a1 0 1).bind fun b1 =>
if b1 = true then ((gm_copies M).bind fun M2 =>
(zs_loop 5000 gm_quarrel_L24 ((-2), (-2), 1, M2)).bind fun (r9 : Int32 × Int32 × zm_S) =>
if a1 = 0 then (some (r9.1, r9.2.2))
else (some (r9.2.1, r9.2.2)))
else (some ((-1), M))
set_option maxHeartbeats 4000000 in
theorem km_quarrel (D : zs_D) (h0 : zs_AH) (m : Nat) (M : zm_S) (a1 : Int32) : zs_Con D (zm_R h0 m) zm_bd zs_eI yX10_quarrel cX10_quarrel 6 (some .int) 5 [.ref m, .int a1] M (gm_quarrel M a1) := by
  unfold gm_quarrel
  refine zs_con (own := RX10) (nm := "quarrel") pl_X10 rfl rfl (Nat.le_of_ble_eq_true rfl) ?_
  refine zs_lv (lv' := [(0, .ref m), (1, .int a1)]) rfl ?_
  refine zs_iload_n (pc := 0) 1 dX10_quarrel_0 rfl rfl ?_
  refine zs_iconst (pc := 1) (v := 0) dX10_quarrel_1 rfl ?_
  refine zs_iconst (pc := 2) (v := 1) dX10_quarrel_2 rfl ?_
  refine zs_callSrB (pc := 3) [.int a1, .int 0, .int 1] [] (km_in D _ _ M a1 0 1) kv_in q1870 dX10_quarrel_3 rfl rfl (Nat.le_of_ble_eq_true rfl) (Nat.le_of_ble_eq_true rfl) (fun b1 => ?_)
  refine zs_if_t (pc := 6) (tgt := 11) dX10_quarrel_6 (by decide) ?_ ?_
  · refine zs_aload_n (pc := 11) 0 dX10_quarrel_11 rfl rfl ?_
    refine zs_callVv (pc := 12) [] [] (km_copies D h0 m M) kv_copies q1873 zc_X10 zm_recv dX10_quarrel_12 rfl rfl (Nat.le_of_ble_eq_true rfl) (Nat.le_of_ble_eq_true rfl) (fun M2 => ?_)
    refine zs_bipush (pc := 15) (v := (-2)) dX10_quarrel_15 (by decide) ?_
    refine zs_istore_n (pc := 17) (lv' := [(0, .ref m), (1, .int a1), (2, .int (-2))]) [1, 2, 0] dX10_quarrel_17 rfl (by decide) rfl ?_
    refine zs_bipush (pc := 18) (v := (-2)) dX10_quarrel_18 (by decide) ?_
    refine zs_istore_n (pc := 20) (lv' := [(0, .ref m), (1, .int a1), (2, .int (-2)), (3, .int (-2))]) [1, 2, 3, 0] dX10_quarrel_20 rfl (by decide) rfl ?_
    refine zs_iconst (pc := 21) (v := 1) dX10_quarrel_21 rfl ?_
    refine zs_istore (pc := 22) (lv' := [(0, .ref m), (1, .int a1), (2, .int (-2)), (3, .int (-2)), (4, .int 1)]) [1, 2, 3, 4, 0] dX10_quarrel_22 (by decide) rfl ?_
    refine zs_whileJ (pc := 24) (fun (t24 : Int32 × Int32 × Int32 × zm_S) => t24.2.2.2) (fun (t24 : Int32 × Int32 × Int32 × zm_S) => [(0, .ref m), (1, .int a1), (2, .int t24.1), (3, .int t24.2.1), (4, .int t24.2.2.1)]) 5000 ((-2), (-2), 1, M2) (fun (r9 : Int32 × Int32 × zm_S) => r9.2.2) 87 (fun (r9 : Int32 × Int32 × zm_S) => [(1, .int a1), (2, .int r9.1), (3, .int r9.2.1)]) [] (fun r9 => ?_) (fun X24 hL24 hE24 t24 => ?_)
    · refine zs_iload_n (pc := 87) 0 dX10_quarrel_87 rfl rfl ?_
      refine zs_if_ne (pc := 88) (tgt := 95) dX10_quarrel_88 (by decide) ?_ ?_
      · refine zs_iload_n (pc := 91) 1 dX10_quarrel_91 rfl rfl ?_
        refine zs_goto (pc := 92) (tgt := 96) dX10_quarrel_92 (by decide) ?_
        exact zs_iret (pc := 96) dX10_quarrel_96 rfl rfl rfl
      · refine zs_iload_n (pc := 95) 2 dX10_quarrel_95 rfl rfl ?_
        exact zs_iret (pc := 96) dX10_quarrel_96 rfl rfl rfl
    · unfold gm_quarrel_L24
      refine zs_iload (pc := 24) 4 dX10_quarrel_24 rfl ?_
      refine zs_aload_n (pc := 26) 0 dX10_quarrel_26 rfl rfl ?_
      refine zm_geta (pc := 27) 48 30 (by decide) rfl q1581 dX10_quarrel_27 ?_
      refine zs_bipush (pc := 30) (v := 24) dX10_quarrel_30 (by decide) ?_
      refine zm_iald (pc := 32) 48 30 zm_p48 dX10_quarrel_32 (fun x3 => ?_)
      refine zs_icmp_ge (pc := 33) (tgt := 87) dX10_quarrel_33 (by decide) ?_ ?_
      · refine zs_aload_n (pc := 36) 0 dX10_quarrel_36 rfl rfl ?_
        refine zs_aload_n (pc := 37) 0 dX10_quarrel_37 rfl rfl ?_
        refine zm_geta (pc := 38) 48 30 (by decide) rfl q1581 dX10_quarrel_38 ?_
        refine zs_bipush (pc := 41) (v := 24) dX10_quarrel_41 (by decide) ?_
        refine zs_iload (pc := 43) 4 dX10_quarrel_43 rfl ?_
        refine zs_iadd (pc := 45) dX10_quarrel_45 ?_
        refine zm_iald (pc := 46) 48 30 zm_p48 dX10_quarrel_46 (fun x4 => ?_)
        refine zs_aload_n (pc := 47) 0 dX10_quarrel_47 rfl rfl ?_
        refine zm_geta (pc := 48) 48 30 (by decide) rfl q1581 dX10_quarrel_48 ?_
        refine zs_bipush (pc := 51) (v := 25) dX10_quarrel_51 (by decide) ?_
        refine zs_iload (pc := 53) 4 dX10_quarrel_53 rfl ?_
        refine zs_iadd (pc := 55) dX10_quarrel_55 ?_
        refine zm_iald (pc := 56) 48 30 zm_p48 dX10_quarrel_56 (fun x5 => ?_)
        refine zs_callVwI (pc := 57) [.int x4, .int x5] [] (km_joinsOf D h0 m t24.2.2.2 x4 x5) kv_joinsOf q1936 zc_X10 zm_recv dX10_quarrel_57 rfl rfl (Nat.le_of_ble_eq_true rfl) (Nat.le_of_ble_eq_true rfl) (fun p6 => ?_)
        refine zs_istore (pc := 60) (lv' := [(0, .ref m), (1, .int a1), (2, .int t24.1), (3, .int t24.2.1), (4, .int t24.2.2.1), (5, .int p6.1)]) [1, 2, 3, 4, 5, 0] dX10_quarrel_60 (by decide) rfl ?_
        refine zs_iload_n (pc := 62) 2 dX10_quarrel_62 rfl rfl ?_
        refine zs_join (pc := 63) (fun (p7 : Int32 × Int32) => p6.2) 81 (fun (p7 : Int32 × Int32) => [(0, .ref m), (1, .int a1), (2, .int p7.1), (3, .int p7.2), (4, .int t24.2.2.1)]) (fun (p7 : Int32 × Int32) => []) (fun p7 => ?_) (fun h81 => ?_)
        · refine zs_iinc (pc := 81) (lv' := [(0, .ref m), (1, .int a1), (2, .int p7.1), (3, .int p7.2), (4, .int (t24.2.2.1 + 1))]) 4 [1, 2, 3, 4, 0] dX10_quarrel_81 rfl rfl (by decide) rfl ?_
          refine zs_goto (pc := 84) (tgt := 24) dX10_quarrel_84 (by decide) ?_
          exact hL24 (p7.1, p7.2, (t24.2.2.1 + 1), p6.2)
        · refine zs_letJ (pc := 63) (fun (p8 : Unit) => p6.2) 75 (fun (p8 : Unit) => [(0, .ref m), (1, .int a1), (4, .int t24.2.2.1), (5, .int p6.1)]) (fun (p8 : Unit) => []) (fun p8 => ?_) (fun J75 h75 => ?_)
          · refine zs_iload (pc := 75) 2 dX10_quarrel_75 rfl ?_
            refine zs_istore_n (pc := 77) (lv' := [(0, .ref m), (1, .int a1), (2, .int t24.2.2.1), (4, .int t24.2.2.1), (5, .int p6.1)]) [1, 2, 0, 3, 4] dX10_quarrel_77 rfl (by decide) rfl ?_
            refine zs_iload (pc := 78) 4 dX10_quarrel_78 rfl ?_
            refine zs_istore_n (pc := 80) (lv' := [(0, .ref m), (1, .int a1), (2, .int t24.2.2.1), (3, .int p6.1), (4, .int t24.2.2.1), (5, .int p6.1)]) [1, 2, 3, 0, 4, 5] dX10_quarrel_80 rfl (by decide) rfl ?_
            refine zs_sub (lv' := [(0, .ref m), (1, .int a1), (2, .int t24.2.2.1), (3, .int p6.1), (4, .int t24.2.2.1)]) [0, 1, 2, 3, 4] rfl ?_
            exact h81 (t24.2.2.1, p6.1)
          · refine zs_if_lt (pc := 63) (tgt := 75) dX10_quarrel_63 (by decide) ?_ ?_
            · refine zs_sub (lv' := [(0, .ref m), (1, .int a1), (4, .int t24.2.2.1), (5, .int p6.1)]) [0, 1, 4, 5] rfl ?_
              exact h75 ()
            · refine zs_iload (pc := 66) 5 dX10_quarrel_66 rfl ?_
              refine zs_iload_n (pc := 68) 3 dX10_quarrel_68 rfl rfl ?_
              refine zs_icmp_lt (pc := 69) (tgt := 75) dX10_quarrel_69 (by decide) ?_ ?_
              · refine zs_sub (lv' := [(0, .ref m), (1, .int a1), (4, .int t24.2.2.1), (5, .int p6.1)]) [0, 1, 4, 5] rfl ?_
                exact h75 ()
              · refine zs_goto (pc := 72) (tgt := 81) dX10_quarrel_72 (by decide) ?_
                refine zs_sub (lv' := [(0, .ref m), (1, .int a1), (2, .int t24.1), (3, .int t24.2.1), (4, .int t24.2.2.1)]) [0, 1, 2, 3, 4] rfl ?_
                exact h81 (t24.1, t24.2.1)
      · refine zs_sub (lv' := [(1, .int a1), (2, .int t24.1), (3, .int t24.2.1)]) [1, 2, 3] rfl ?_
        exact hE24 (t24.1, t24.2.1, t24.2.2.2)
  · refine zs_iconst (pc := 9) (v := (-1)) dX10_quarrel_9 rfl ?_
    exact zs_iret (pc := 10) dX10_quarrel_10 rfl rfl rfl
theorem kv_greyest : zs_mV RX10 yX10_greyest cX10_greyest 4 (some .int) 1 := ⟨q2051, q2052, q152, q2053, by decide, by decide +kernel⟩
def gm_greyest_L16 (M : zm_S) : (Int32 × Int32) → Option ((Int32 × Int32) ⊕ (Int32)) := fun t16 =>
(zs_ald 33 (M.2.1 47) 24).bind fun x2 =>
if t16.2 < x2 then ((zs_let (fun (p4 : Unit) => some t16.2) fun J68 =>
if t16.1 < 0 then (J68 ())
else ((zs_ald 33 (M.2.1 47) (25 + t16.2)).bind fun x5 =>
(zs_ald 33 (M.2.1 47) (12 + x5)).bind fun x6 =>
(zs_ald 33 (M.2.1 47) (25 + t16.1)).bind fun x7 =>
(zs_ald 33 (M.2.1 47) (12 + x7)).bind fun x8 =>
if x6 < x8 then (J68 ())
else (some t16.1))).bind fun (p3 : Int32) =>
some (Sum.inl (p3, (t16.2 + 1))))
else (some (Sum.inr t16.1))
def gm_greyest (M : zm_S) (a1 : Int32) : Option (Int32) :=
(gm_in a1 0 1).bind fun b1 =>
if b1 = true then ((zs_loop 5000 (gm_greyest_L16 M) ((-2), 0)).bind fun (r9 : Int32) =>
zs_let (fun (p10 : Unit) => some r9) fun J84 =>
if r9 < 0 then (J84 ())
else (if a1 = 0 then (J84 ())
else ((zs_ald 33 (M.2.1 47) (25 + r9)).bind fun x11 =>
(zs_ald 33 (M.2.1 47) (12 + x11)).bind fun x12 =>
some x12)))
else (some (-1))
set_option maxHeartbeats 4000000 in
theorem km_greyest (D : zs_D) (h0 : zs_AH) (m : Nat) (M : zm_S) (a1 : Int32) : zs_Con D (zm_R h0 m) zm_bd zs_eI yX10_greyest cX10_greyest 4 (some .int) 1 [.ref m, .int a1] M ((gm_greyest M a1).map fun x => (x, M)) := by
  unfold gm_greyest
  refine zs_conR (own := RX10) (nm := "greyest") pl_X10 rfl rfl (Nat.le_of_ble_eq_true rfl) ?_
  refine zs_lv (lv' := [(0, .ref m), (1, .int a1)]) rfl ?_
  refine zs_iload_n (pc := 0) 1 dX10_greyest_0 rfl rfl ?_
  refine zs_iconst (pc := 1) (v := 0) dX10_greyest_1 rfl ?_
  refine zs_iconst (pc := 2) (v := 1) dX10_greyest_2 rfl ?_
  refine zs_callSrB (pc := 3) [.int a1, .int 0, .int 1] [] (km_in D _ _ M a1 0 1) kv_in q1870 dX10_greyest_3 rfl rfl (Nat.le_of_ble_eq_true rfl) (Nat.le_of_ble_eq_true rfl) (fun b1 => ?_)
  refine zs_if_t (pc := 6) (tgt := 11) dX10_greyest_6 (by decide) ?_ ?_
  · refine zs_bipush (pc := 11) (v := (-2)) dX10_greyest_11 (by decide) ?_
    refine zs_istore_n (pc := 13) (lv' := [(0, .ref m), (1, .int a1), (2, .int (-2))]) [1, 2, 0] dX10_greyest_13 rfl (by decide) rfl ?_
    refine zs_iconst (pc := 14) (v := 0) dX10_greyest_14 rfl ?_
    refine zs_istore_n (pc := 15) (lv' := [(0, .ref m), (1, .int a1), (2, .int (-2)), (3, .int 0)]) [1, 2, 3, 0] dX10_greyest_15 rfl (by decide) rfl ?_
    refine zs_whileJ (pc := 16) (fun (t16 : Int32 × Int32) => M) (fun (t16 : Int32 × Int32) => [(0, .ref m), (1, .int a1), (2, .int t16.1), (3, .int t16.2)]) 5000 ((-2), 0) (fun (r9 : Int32) => M) 76 (fun (r9 : Int32) => [(0, .ref m), (1, .int a1), (2, .int r9)]) [] (fun r9 => ?_) (fun X16 hL16 hE16 t16 => ?_)
    · refine zs_iload_n (pc := 76) 2 dX10_greyest_76 rfl rfl ?_
      refine zs_letJ (pc := 77) (fun (p10 : Unit) => M) 84 (fun (p10 : Unit) => [(2, .int r9)]) (fun (p10 : Unit) => []) (fun p10 => ?_) (fun J84 h84 => ?_)
      · refine zs_iload_n (pc := 84) 0 dX10_greyest_84 rfl rfl ?_
        refine zs_goto (pc := 85) (tgt := 105) dX10_greyest_85 (by decide) ?_
        exact zs_iret (pc := 105) dX10_greyest_105 rfl rfl rfl
      · refine zs_if_lt (pc := 77) (tgt := 84) dX10_greyest_77 (by decide) ?_ ?_
        · refine zs_sub (lv' := [(2, .int r9)]) [2] rfl ?_
          exact h84 ()
        · refine zs_iload_n (pc := 80) 1 dX10_greyest_80 rfl rfl ?_
          refine zs_if_ne (pc := 81) (tgt := 88) dX10_greyest_81 (by decide) ?_ ?_
          · refine zs_sub (lv' := [(2, .int r9)]) [2] rfl ?_
            exact h84 ()
          · refine zs_aload_n (pc := 88) 0 dX10_greyest_88 rfl rfl ?_
            refine zm_geta (pc := 89) 47 29 (by decide) rfl q1580 dX10_greyest_89 ?_
            refine zs_bipush (pc := 92) (v := 12) dX10_greyest_92 (by decide) ?_
            refine zs_aload_n (pc := 94) 0 dX10_greyest_94 rfl rfl ?_
            refine zm_geta (pc := 95) 47 29 (by decide) rfl q1580 dX10_greyest_95 ?_
            refine zs_bipush (pc := 98) (v := 25) dX10_greyest_98 (by decide) ?_
            refine zs_iload_n (pc := 100) 2 dX10_greyest_100 rfl rfl ?_
            refine zs_iadd (pc := 101) dX10_greyest_101 ?_
            refine zm_iald (pc := 102) 47 29 zm_p47 dX10_greyest_102 (fun x11 => ?_)
            refine zs_iadd (pc := 103) dX10_greyest_103 ?_
            refine zm_iald (pc := 104) 47 29 zm_p47 dX10_greyest_104 (fun x12 => ?_)
            exact zs_iret (pc := 105) dX10_greyest_105 rfl rfl rfl
    · unfold gm_greyest_L16
      refine zs_iload_n (pc := 16) 3 dX10_greyest_16 rfl rfl ?_
      refine zs_aload_n (pc := 17) 0 dX10_greyest_17 rfl rfl ?_
      refine zm_geta (pc := 18) 47 29 (by decide) rfl q1580 dX10_greyest_18 ?_
      refine zs_bipush (pc := 21) (v := 24) dX10_greyest_21 (by decide) ?_
      refine zm_iald (pc := 23) 47 29 zm_p47 dX10_greyest_23 (fun x2 => ?_)
      refine zs_icmp_ge (pc := 24) (tgt := 76) dX10_greyest_24 (by decide) ?_ ?_
      · refine zs_iload_n (pc := 27) 2 dX10_greyest_27 rfl rfl ?_
        refine zs_join (pc := 28) (fun (p3 : Int32) => M) 70 (fun (p3 : Int32) => [(0, .ref m), (1, .int a1), (2, .int p3), (3, .int t16.2)]) (fun (p3 : Int32) => []) (fun p3 => ?_) (fun h70 => ?_)
        · refine zs_iinc (pc := 70) (lv' := [(0, .ref m), (1, .int a1), (2, .int p3), (3, .int (t16.2 + 1))]) 3 [1, 2, 3, 0] dX10_greyest_70 rfl rfl (by decide) rfl ?_
          refine zs_goto (pc := 73) (tgt := 16) dX10_greyest_73 (by decide) ?_
          exact hL16 (p3, (t16.2 + 1))
        · refine zs_letJ (pc := 28) (fun (p4 : Unit) => M) 68 (fun (p4 : Unit) => [(0, .ref m), (1, .int a1), (3, .int t16.2)]) (fun (p4 : Unit) => []) (fun p4 => ?_) (fun J68 h68 => ?_)
          · refine zs_iload_n (pc := 68) 2 dX10_greyest_68 rfl rfl ?_
            refine zs_istore_n (pc := 69) (lv' := [(0, .ref m), (1, .int a1), (2, .int t16.2), (3, .int t16.2)]) [1, 2, 0, 3] dX10_greyest_69 rfl (by decide) rfl ?_
            exact h70 t16.2
          · refine zs_if_lt (pc := 28) (tgt := 68) dX10_greyest_28 (by decide) ?_ ?_
            · refine zs_sub (lv' := [(0, .ref m), (1, .int a1), (3, .int t16.2)]) [0, 1, 3] rfl ?_
              exact h68 ()
            · refine zs_aload_n (pc := 31) 0 dX10_greyest_31 rfl rfl ?_
              refine zm_geta (pc := 32) 47 29 (by decide) rfl q1580 dX10_greyest_32 ?_
              refine zs_bipush (pc := 35) (v := 12) dX10_greyest_35 (by decide) ?_
              refine zs_aload_n (pc := 37) 0 dX10_greyest_37 rfl rfl ?_
              refine zm_geta (pc := 38) 47 29 (by decide) rfl q1580 dX10_greyest_38 ?_
              refine zs_bipush (pc := 41) (v := 25) dX10_greyest_41 (by decide) ?_
              refine zs_iload_n (pc := 43) 3 dX10_greyest_43 rfl rfl ?_
              refine zs_iadd (pc := 44) dX10_greyest_44 ?_
              refine zm_iald (pc := 45) 47 29 zm_p47 dX10_greyest_45 (fun x5 => ?_)
              refine zs_iadd (pc := 46) dX10_greyest_46 ?_
              refine zm_iald (pc := 47) 47 29 zm_p47 dX10_greyest_47 (fun x6 => ?_)
              refine zs_aload_n (pc := 48) 0 dX10_greyest_48 rfl rfl ?_
              refine zm_geta (pc := 49) 47 29 (by decide) rfl q1580 dX10_greyest_49 ?_
              refine zs_bipush (pc := 52) (v := 12) dX10_greyest_52 (by decide) ?_
              refine zs_aload_n (pc := 54) 0 dX10_greyest_54 rfl rfl ?_
              refine zm_geta (pc := 55) 47 29 (by decide) rfl q1580 dX10_greyest_55 ?_
              refine zs_bipush (pc := 58) (v := 25) dX10_greyest_58 (by decide) ?_
              refine zs_iload_n (pc := 60) 2 dX10_greyest_60 rfl rfl ?_
              refine zs_iadd (pc := 61) dX10_greyest_61 ?_
              refine zm_iald (pc := 62) 47 29 zm_p47 dX10_greyest_62 (fun x7 => ?_)
              refine zs_iadd (pc := 63) dX10_greyest_63 ?_
              refine zm_iald (pc := 64) 47 29 zm_p47 dX10_greyest_64 (fun x8 => ?_)
              refine zs_icmp_ge (pc := 65) (tgt := 70) dX10_greyest_65 (by decide) ?_ ?_
              · refine zs_sub (lv' := [(0, .ref m), (1, .int a1), (3, .int t16.2)]) [0, 1, 3] rfl ?_
                exact h68 ()
              · exact h70 t16.1
      · refine zs_sub (lv' := [(0, .ref m), (1, .int a1), (2, .int t16.1)]) [0, 1, 2] rfl ?_
        exact hE16 t16.1
  · refine zs_iconst (pc := 9) (v := (-1)) dX10_greyest_9 rfl ?_
    exact zs_iret (pc := 10) dX10_greyest_10 rfl rfl rfl
theorem kv_share : zs_mV RX10 yX10_share cX10_share 2 (some .int) 1 := ⟨q2055, q2056, q152, q2057, by decide, by decide +kernel⟩
def gm_share (M : zm_S) (a1 : Int32) : Option (Int32 × zm_S) :=
(gm_isHouse M a1).bind fun b1 =>
if b1 = true then ((gm_copies M).bind fun M2 =>
(gm_hasPlait M2 a1).bind fun b3 =>
if b3 = true then ((zs_ald 33 (M2.2.1 48) (6 + a1)).bind fun x4 =>
(gm_ropeLong M2).bind fun x5 =>
(zs_div (1000 * x4) x5).bind fun x6 =>
some (x6, M2))
else (some (0, M2)))
else (some ((-1), M))
set_option maxHeartbeats 4000000 in
theorem km_share (D : zs_D) (h0 : zs_AH) (m : Nat) (M : zm_S) (a1 : Int32) : zs_Con D (zm_R h0 m) zm_bd zs_eI yX10_share cX10_share 2 (some .int) 2 [.ref m, .int a1] M (gm_share M a1) := by
  unfold gm_share
  refine zs_con (own := RX10) (nm := "share") pl_X10 rfl rfl (Nat.le_of_ble_eq_true rfl) ?_
  refine zs_lv (lv' := [(0, .ref m), (1, .int a1)]) rfl ?_
  refine zs_aload_n (pc := 0) 0 dX10_share_0 rfl rfl ?_
  refine zs_iload_n (pc := 1) 1 dX10_share_1 rfl rfl ?_
  refine zs_callVrB (pc := 2) [.int a1] [] (km_isHouse D h0 m M a1) kv_isHouse q1866 zc_X10 zm_recv dX10_share_2 rfl rfl (Nat.le_of_ble_eq_true rfl) (Nat.le_of_ble_eq_true rfl) (fun b1 => ?_)
  refine zs_if_t (pc := 5) (tgt := 10) dX10_share_5 (by decide) ?_ ?_
  · refine zs_aload_n (pc := 10) 0 dX10_share_10 rfl rfl ?_
    refine zs_callVv (pc := 11) [] [] (km_copies D h0 m M) kv_copies q1873 zc_X10 zm_recv dX10_share_11 rfl rfl (Nat.le_of_ble_eq_true rfl) (Nat.le_of_ble_eq_true rfl) (fun M2 => ?_)
    refine zs_aload_n (pc := 14) 0 dX10_share_14 rfl rfl ?_
    refine zs_iload_n (pc := 15) 1 dX10_share_15 rfl rfl ?_
    refine zs_callVrB (pc := 16) [.int a1] [] (km_hasPlait D h0 m M2 a1) kv_hasPlait q1881 zc_X10 zm_recv dX10_share_16 rfl rfl (Nat.le_of_ble_eq_true rfl) (Nat.le_of_ble_eq_true rfl) (fun b3 => ?_)
    refine zs_if_f (pc := 19) (tgt := 43) dX10_share_19 (by decide) ?_ ?_
    · refine zs_sipush (pc := 22) (v := 1000) dX10_share_22 (by decide) ?_
      refine zs_aload_n (pc := 25) 0 dX10_share_25 rfl rfl ?_
      refine zm_geta (pc := 26) 48 30 (by decide) rfl q1581 dX10_share_26 ?_
      refine zs_bipush (pc := 29) (v := 6) dX10_share_29 (by decide) ?_
      refine zs_iload_n (pc := 31) 1 dX10_share_31 rfl rfl ?_
      refine zs_iadd (pc := 32) dX10_share_32 ?_
      refine zm_iald (pc := 33) 48 30 zm_p48 dX10_share_33 (fun x4 => ?_)
      refine zs_imul (pc := 34) dX10_share_34 ?_
      refine zs_aload_n (pc := 35) 0 dX10_share_35 rfl rfl ?_
      refine zs_callVrI (pc := 36) [] [.int (1000 * x4)] (km_ropeLong D h0 m M2) kv_ropeLong q1956 zc_X10 zm_recv dX10_share_36 rfl rfl (Nat.le_of_ble_eq_true rfl) (Nat.le_of_ble_eq_true rfl) (fun x5 => ?_)
      refine zs_idiv (pc := 39) dX10_share_39 (fun x6 => ?_)
      refine zs_goto (pc := 40) (tgt := 44) dX10_share_40 (by decide) ?_
      exact zs_iret (pc := 44) dX10_share_44 rfl rfl rfl
    · refine zs_iconst (pc := 43) (v := 0) dX10_share_43 rfl ?_
      exact zs_iret (pc := 44) dX10_share_44 rfl rfl rfl
  · refine zs_iconst (pc := 8) (v := (-1)) dX10_share_8 rfl ?_
    exact zs_iret (pc := 9) dX10_share_9 rfl rfl rfl
theorem kv_swap : zs_mV RX10 yX10_swap cX10_swap 5 (some .int) 0 := ⟨q2059, q2060, q152, q2061, by decide, by decide +kernel⟩
def gm_swap_L30 (t14 : Int32 × Int32 × Int32 × zm_S) : (Int32 × Int32 × Int32 × zm_S) → Option ((Int32 × Int32 × Int32 × zm_S) ⊕ (Int32 × Int32 × zm_S)) := fun t30 =>
(zs_ald 33 (t30.2.2.2.2.1 47) 24).bind fun x5 =>
if t30.2.2.1 < x5 then ((gm_copies t30.2.2.2).bind fun M6 =>
(zs_ald 33 (M6.2.1 47) (25 + t30.2.2.1)).bind fun x7 =>
(zs_ast 33 (25 + t14.2.2.1) (zm_sA M6 48 (25 + t14.2.2.1) x7)).bind fun M8 =>
(zs_ald 33 (M8.2.1 47) (25 + t14.2.2.1)).bind fun x9 =>
(zs_ast 33 (25 + t30.2.2.1) (zm_sA M8 48 (25 + t30.2.2.1) x9)).bind fun M10 =>
(gm_mostOf M10).bind fun p11 =>
(if t30.1 < p11.1 then ((some ((10 * t14.2.2.1) + t30.2.2.1)).bind fun x13 =>
(gm_mostOf p11.2).bind fun p14 =>
some (p14.1, x13, p14.2))
else (some (t30.1, t30.2.1, p11.2))).bind fun (p12 : Int32 × Int32 × zm_S) =>
some (Sum.inl (p12.1, p12.2.1, (t30.2.2.1 + 1), p12.2.2)))
else (some (Sum.inr (t30.1, t30.2.1, t30.2.2.2)))
def gm_swap_L14 : (Int32 × Int32 × Int32 × zm_S) → Option ((Int32 × Int32 × Int32 × zm_S) ⊕ (Int32 × zm_S)) := fun t14 =>
(zs_ald 33 (t14.2.2.2.2.1 47) 24).bind fun x3 =>
if t14.2.2.1 < x3 then ((some (t14.2.2.1 + 1)).bind fun x4 =>
(zs_loop 5000 (gm_swap_L30 t14) (t14.1, t14.2.1, x4, t14.2.2.2)).bind fun (r15 : Int32 × Int32 × zm_S) =>
some (Sum.inl (r15.1, r15.2.1, (t14.2.2.1 + 1), r15.2.2)))
else (some (Sum.inr (t14.2.1, t14.2.2.2)))
def gm_swap (M : zm_S) : Option (Int32 × zm_S) :=
(gm_copies M).bind fun M1 =>
(gm_mostOf M1).bind fun p2 =>
(zs_loop 5000 gm_swap_L14 (p2.1, (-2), 0, p2.2)).bind fun z => some z
set_option maxHeartbeats 4000000 in
theorem km_swap (D : zs_D) (h0 : zs_AH) (m : Nat) (M : zm_S) : zs_Con D (zm_R h0 m) zm_bd zs_eI yX10_swap cX10_swap 5 (some .int) 8 [.ref m] M (gm_swap M) := by
  unfold gm_swap
  refine zs_con (own := RX10) (nm := "swap") pl_X10 rfl rfl (Nat.le_of_ble_eq_true rfl) ?_
  refine zs_lv (lv' := [(0, .ref m)]) rfl ?_
  refine zs_aload_n (pc := 0) 0 dX10_swap_0 rfl rfl ?_
  refine zs_callVv (pc := 1) [] [] (km_copies D h0 m M) kv_copies q1873 zc_X10 zm_recv dX10_swap_1 rfl rfl (Nat.le_of_ble_eq_true rfl) (Nat.le_of_ble_eq_true rfl) (fun M1 => ?_)
  refine zs_aload_n (pc := 4) 0 dX10_swap_4 rfl rfl ?_
  refine zs_callVwI (pc := 5) [] [] (km_mostOf D h0 m M1) kv_mostOf q2022 zc_X10 zm_recv dX10_swap_5 rfl rfl (Nat.le_of_ble_eq_true rfl) (Nat.le_of_ble_eq_true rfl) (fun p2 => ?_)
  refine zs_istore_n (pc := 8) (lv' := [(0, .ref m), (1, .int p2.1)]) [1, 0] dX10_swap_8 rfl (by decide) rfl ?_
  refine zs_bipush (pc := 9) (v := (-2)) dX10_swap_9 (by decide) ?_
  refine zs_istore_n (pc := 11) (lv' := [(0, .ref m), (1, .int p2.1), (2, .int (-2))]) [1, 2, 0] dX10_swap_11 rfl (by decide) rfl ?_
  refine zs_iconst (pc := 12) (v := 0) dX10_swap_12 rfl ?_
  refine zs_istore_n (pc := 13) (lv' := [(0, .ref m), (1, .int p2.1), (2, .int (-2)), (3, .int 0)]) [1, 2, 3, 0] dX10_swap_13 rfl (by decide) rfl ?_
  refine zs_whileX (pc := 14) (fun (t14 : Int32 × Int32 × Int32 × zm_S) => t14.2.2.2) (fun (t14 : Int32 × Int32 × Int32 × zm_S) => [(0, .ref m), (1, .int t14.1), (2, .int t14.2.1), (3, .int t14.2.2.1)]) 5000 (p2.1, (-2), 0, p2.2) (fun X14 hL14 hR14 t14 => ?_)
  unfold gm_swap_L14
  refine zs_iload_n (pc := 14) 3 dX10_swap_14 rfl rfl ?_
  refine zs_aload_n (pc := 15) 0 dX10_swap_15 rfl rfl ?_
  refine zm_geta (pc := 16) 47 29 (by decide) rfl q1580 dX10_swap_16 ?_
  refine zs_bipush (pc := 19) (v := 24) dX10_swap_19 (by decide) ?_
  refine zm_iald (pc := 21) 47 29 zm_p47 dX10_swap_21 (fun x3 => ?_)
  refine zs_icmp_ge (pc := 22) (tgt := 120) dX10_swap_22 (by decide) ?_ ?_
  · refine zs_iload_n (pc := 25) 3 dX10_swap_25 rfl rfl ?_
    refine zs_iconst (pc := 26) (v := 1) dX10_swap_26 rfl ?_
    refine zs_iadd (pc := 27) dX10_swap_27 ?_
    refine zs_nm (fun x4 => ?_)
    refine zs_istore (pc := 28) (lv' := [(0, .ref m), (1, .int t14.1), (2, .int t14.2.1), (3, .int t14.2.2.1), (4, .int x4)]) [1, 2, 3, 4, 0] dX10_swap_28 (by decide) rfl ?_
    refine zs_whileJ (pc := 30) (fun (t30 : Int32 × Int32 × Int32 × zm_S) => t30.2.2.2) (fun (t30 : Int32 × Int32 × Int32 × zm_S) => [(0, .ref m), (1, .int t30.1), (2, .int t30.2.1), (3, .int t14.2.2.1), (4, .int t30.2.2.1)]) 5000 (t14.1, t14.2.1, x4, t14.2.2.2) (fun (r15 : Int32 × Int32 × zm_S) => r15.2.2) 114 (fun (r15 : Int32 × Int32 × zm_S) => [(0, .ref m), (1, .int r15.1), (2, .int r15.2.1), (3, .int t14.2.2.1)]) [] (fun r15 => ?_) (fun X30 hL30 hE30 t30 => ?_)
    · refine zs_iinc (pc := 114) (lv' := [(0, .ref m), (1, .int r15.1), (2, .int r15.2.1), (3, .int (t14.2.2.1 + 1))]) 3 [1, 2, 3, 0] dX10_swap_114 rfl rfl (by decide) rfl ?_
      refine zs_goto (pc := 117) (tgt := 14) dX10_swap_117 (by decide) ?_
      exact hL14 (r15.1, r15.2.1, (t14.2.2.1 + 1), r15.2.2)
    · unfold gm_swap_L30
      refine zs_iload (pc := 30) 4 dX10_swap_30 rfl ?_
      refine zs_aload_n (pc := 32) 0 dX10_swap_32 rfl rfl ?_
      refine zm_geta (pc := 33) 47 29 (by decide) rfl q1580 dX10_swap_33 ?_
      refine zs_bipush (pc := 36) (v := 24) dX10_swap_36 (by decide) ?_
      refine zm_iald (pc := 38) 47 29 zm_p47 dX10_swap_38 (fun x5 => ?_)
      refine zs_icmp_ge (pc := 39) (tgt := 114) dX10_swap_39 (by decide) ?_ ?_
      · refine zs_aload_n (pc := 42) 0 dX10_swap_42 rfl rfl ?_
        refine zs_callVv (pc := 43) [] [] (km_copies D h0 m t30.2.2.2) kv_copies q1873 zc_X10 zm_recv dX10_swap_43 rfl rfl (Nat.le_of_ble_eq_true rfl) (Nat.le_of_ble_eq_true rfl) (fun M6 => ?_)
        refine zs_aload_n (pc := 46) 0 dX10_swap_46 rfl rfl ?_
        refine zm_geta (pc := 47) 48 30 (by decide) rfl q1581 dX10_swap_47 ?_
        refine zs_bipush (pc := 50) (v := 25) dX10_swap_50 (by decide) ?_
        refine zs_iload_n (pc := 52) 3 dX10_swap_52 rfl rfl ?_
        refine zs_iadd (pc := 53) dX10_swap_53 ?_
        refine zs_aload_n (pc := 54) 0 dX10_swap_54 rfl rfl ?_
        refine zm_geta (pc := 55) 47 29 (by decide) rfl q1580 dX10_swap_55 ?_
        refine zs_bipush (pc := 58) (v := 25) dX10_swap_58 (by decide) ?_
        refine zs_iload (pc := 60) 4 dX10_swap_60 rfl ?_
        refine zs_iadd (pc := 62) dX10_swap_62 ?_
        refine zm_iald (pc := 63) 47 29 zm_p47 dX10_swap_63 (fun x7 => ?_)
        refine zm_iast (pc := 64) 48 30 zm_p48 dX10_swap_64 (fun M8 => ?_)
        refine zs_aload_n (pc := 65) 0 dX10_swap_65 rfl rfl ?_
        refine zm_geta (pc := 66) 48 30 (by decide) rfl q1581 dX10_swap_66 ?_
        refine zs_bipush (pc := 69) (v := 25) dX10_swap_69 (by decide) ?_
        refine zs_iload (pc := 71) 4 dX10_swap_71 rfl ?_
        refine zs_iadd (pc := 73) dX10_swap_73 ?_
        refine zs_aload_n (pc := 74) 0 dX10_swap_74 rfl rfl ?_
        refine zm_geta (pc := 75) 47 29 (by decide) rfl q1580 dX10_swap_75 ?_
        refine zs_bipush (pc := 78) (v := 25) dX10_swap_78 (by decide) ?_
        refine zs_iload_n (pc := 80) 3 dX10_swap_80 rfl rfl ?_
        refine zs_iadd (pc := 81) dX10_swap_81 ?_
        refine zm_iald (pc := 82) 47 29 zm_p47 dX10_swap_82 (fun x9 => ?_)
        refine zm_iast (pc := 83) 48 30 zm_p48 dX10_swap_83 (fun M10 => ?_)
        refine zs_aload_n (pc := 84) 0 dX10_swap_84 rfl rfl ?_
        refine zs_callVwI (pc := 85) [] [] (km_mostOf D h0 m M10) kv_mostOf q2022 zc_X10 zm_recv dX10_swap_85 rfl rfl (Nat.le_of_ble_eq_true rfl) (Nat.le_of_ble_eq_true rfl) (fun p11 => ?_)
        refine zs_iload_n (pc := 88) 1 dX10_swap_88 rfl rfl ?_
        refine zs_join (pc := 89) (fun (p12 : Int32 × Int32 × zm_S) => p12.2.2) 108 (fun (p12 : Int32 × Int32 × zm_S) => [(0, .ref m), (1, .int p12.1), (2, .int p12.2.1), (3, .int t14.2.2.1), (4, .int t30.2.2.1)]) (fun (p12 : Int32 × Int32 × zm_S) => []) (fun p12 => ?_) (fun h108 => ?_)
        · refine zs_iinc (pc := 108) (lv' := [(0, .ref m), (1, .int p12.1), (2, .int p12.2.1), (3, .int t14.2.2.1), (4, .int (t30.2.2.1 + 1))]) 4 [1, 2, 3, 4, 0] dX10_swap_108 rfl rfl (by decide) rfl ?_
          refine zs_goto (pc := 111) (tgt := 30) dX10_swap_111 (by decide) ?_
          exact hL30 (p12.1, p12.2.1, (t30.2.2.1 + 1), p12.2.2)
        · refine zs_icmp_gt (pc := 89) (tgt := 95) dX10_swap_89 (by decide) ?_ ?_
          · refine zs_bipush (pc := 95) (v := 10) dX10_swap_95 (by decide) ?_
            refine zs_iload_n (pc := 97) 3 dX10_swap_97 rfl rfl ?_
            refine zs_imul (pc := 98) dX10_swap_98 ?_
            refine zs_iload (pc := 99) 4 dX10_swap_99 rfl ?_
            refine zs_iadd (pc := 101) dX10_swap_101 ?_
            refine zs_nm (fun x13 => ?_)
            refine zs_istore_n (pc := 102) (lv' := [(0, .ref m), (1, .int t30.1), (2, .int x13), (3, .int t14.2.2.1), (4, .int t30.2.2.1)]) [1, 2, 0, 3, 4] dX10_swap_102 rfl (by decide) rfl ?_
            refine zs_aload_n (pc := 103) 0 dX10_swap_103 rfl rfl ?_
            refine zs_callVwI (pc := 104) [] [] (km_mostOf D h0 m p11.2) kv_mostOf q2022 zc_X10 zm_recv dX10_swap_104 rfl rfl (Nat.le_of_ble_eq_true rfl) (Nat.le_of_ble_eq_true rfl) (fun p14 => ?_)
            refine zs_istore_n (pc := 107) (lv' := [(0, .ref m), (1, .int p14.1), (2, .int x13), (3, .int t14.2.2.1), (4, .int t30.2.2.1)]) [1, 0, 2, 3, 4] dX10_swap_107 rfl (by decide) rfl ?_
            exact h108 (p14.1, x13, p14.2)
          · refine zs_goto (pc := 92) (tgt := 108) dX10_swap_92 (by decide) ?_
            exact h108 (t30.1, t30.2.1, p11.2)
      · refine zs_sub (lv' := [(0, .ref m), (1, .int t30.1), (2, .int t30.2.1), (3, .int t14.2.2.1)]) [0, 1, 2, 3] rfl ?_
        exact hE30 (t30.1, t30.2.1, t30.2.2.2)
  · refine zs_iload_n (pc := 120) 2 dX10_swap_120 rfl rfl ?_
    exact zs_iret (pc := 121) dX10_swap_121 ((hR14 _).trans rfl) rfl rfl
theorem kv_fillsPlans : zs_mV RX10 yX10_fillsPlans cX10_fillsPlans 2 none 0 := ⟨q2068, qs114, q152, q2069, by decide, by decide +kernel⟩
def gm_fillsPlans_L2 : (Int32 × zm_S) → Option ((Int32 × zm_S) ⊕ (zm_S)) := fun t2 =>
if t2.1 < 6 then ((gm_isHouse t2.2 t2.1).bind fun b1 =>
(if b1 = true then ((gm_hasPlait t2.2 t2.1).bind fun b8 =>
if b8 = true then ((zs_ald 33 (t2.2.2.1 48) (6 + t2.1)).bind fun x10 =>
some x10)
else ((zs_ald 33 (t2.2.2.1 48) t2.1).bind fun x9 =>
some x9))
else (some 0)).bind fun (p2 : Int32) =>
(zs_ast 6 t2.1 (zm_sA t2.2 55 t2.1 p2)).bind fun M3 =>
(gm_isHouse M3 t2.1).bind fun b4 =>
(if b4 = true then ((gm_strongOf M3 t2.1).bind fun x7 =>
some x7)
else (some 0)).bind fun (p5 : Int32) =>
(zs_ast 6 t2.1 (zm_sA M3 56 t2.1 p5)).bind fun M6 =>
some (Sum.inl ((t2.1 + 1), M6)))
else (some (Sum.inr t2.2))
def gm_fillsPlans_L83 : (Int32 × zm_S) → Option ((Int32 × zm_S) ⊕ (zm_S)) := fun t83 =>
if t83.1 < 36 then ((gm_areTwo t83.2 (t83.1 / 6) (zs_rem t83.1 6)).bind fun b12 =>
(if b12 = true then ((gm_joinsOf t83.2 (t83.1 / 6) (zs_rem t83.1 6)).bind fun p14 =>
(zs_ast 36 t83.1 (zm_sA p14.2 57 t83.1 p14.1)).bind fun M15 =>
(gm_joinsBy M15 (t83.1 / 6) (zs_rem t83.1 6) 9).bind fun p16 =>
(zs_ast 36 t83.1 (zm_sA p16.2 58 t83.1 p16.1)).bind fun M17 =>
(zs_ald 36 (M17.2.1 57) t83.1).bind fun x18 =>
(zs_ast 36 t83.1 (zm_sA M17 59 t83.1 x18)).bind fun M19 =>
some M19)
else (some t83.2)).bind fun (p13 : zm_S) =>
some (Sum.inl ((t83.1 + 1), p13)))
else (some (Sum.inr t83.2))
def gm_fillsPlans (M : zm_S) : Option (zm_S) :=
(zs_loop 5000 gm_fillsPlans_L2 (0, M)).bind fun (r11 : zm_S) =>
(zs_loop 5000 gm_fillsPlans_L83 (0, r11)).bind fun z => some z
set_option maxHeartbeats 4000000 in
theorem km_fillsPlans (D : zs_D) (h0 : zs_AH) (m : Nat) (M : zm_S) : zs_Con D (zm_R h0 m) zm_bd zs_eV yX10_fillsPlans cX10_fillsPlans 2 none 5 [.ref m] M ((gm_fillsPlans M).map fun x => ((), x)) := by
  unfold gm_fillsPlans
  refine zs_conV (own := RX10) (nm := "fillsPlans") pl_X10 rfl rfl (Nat.le_of_ble_eq_true rfl) ?_
  refine zs_lv (lv' := [(0, .ref m)]) rfl ?_
  refine zs_iconst (pc := 0) (v := 0) dX10_fillsPlans_0 rfl ?_
  refine zs_istore_n (pc := 1) (lv' := [(0, .ref m), (1, .int 0)]) [1, 0] dX10_fillsPlans_1 rfl (by decide) rfl ?_
  refine zs_whileJ (pc := 2) (fun (t2 : Int32 × zm_S) => t2.2) (fun (t2 : Int32 × zm_S) => [(0, .ref m), (1, .int t2.1)]) 5000 (0, M) (fun (r11 : zm_S) => r11) 81 (fun (r11 : zm_S) => [(0, .ref m)]) [] (fun r11 => ?_) (fun X2 hL2 hE2 t2 => ?_)
  · refine zs_iconst (pc := 81) (v := 0) dX10_fillsPlans_81 rfl ?_
    refine zs_istore_n (pc := 82) (lv' := [(0, .ref m), (1, .int 0)]) [1, 0] dX10_fillsPlans_82 rfl (by decide) rfl ?_
    refine zs_whileX (pc := 83) (fun (t83 : Int32 × zm_S) => t83.2) (fun (t83 : Int32 × zm_S) => [(0, .ref m), (1, .int t83.1)]) 5000 (0, r11) (fun X83 hL83 hR83 t83 => ?_)
    unfold gm_fillsPlans_L83
    refine zs_iload_n (pc := 83) 1 dX10_fillsPlans_83 rfl rfl ?_
    refine zs_bipush (pc := 84) (v := 36) dX10_fillsPlans_84 (by decide) ?_
    refine zs_icmp_ge (pc := 86) (tgt := 163) dX10_fillsPlans_86 (by decide) ?_ ?_
    · refine zs_aload_n (pc := 89) 0 dX10_fillsPlans_89 rfl rfl ?_
      refine zs_iload_n (pc := 90) 1 dX10_fillsPlans_90 rfl rfl ?_
      refine zs_bipush (pc := 91) (v := 6) dX10_fillsPlans_91 (by decide) ?_
      refine zs_idivK (pc := 93) dX10_fillsPlans_93 (by decide) ?_
      refine zs_iload_n (pc := 94) 1 dX10_fillsPlans_94 rfl rfl ?_
      refine zs_bipush (pc := 95) (v := 6) dX10_fillsPlans_95 (by decide) ?_
      refine zs_iremK (pc := 97) dX10_fillsPlans_97 (by decide) ?_
      refine zs_callVrB (pc := 98) [.int (t83.1 / 6), .int (zs_rem t83.1 6)] [] (km_areTwo D h0 m t83.2 (t83.1 / 6) (zs_rem t83.1 6)) kv_areTwo q1924 zc_X10 zm_recv dX10_fillsPlans_98 rfl rfl (Nat.le_of_ble_eq_true rfl) (Nat.le_of_ble_eq_true rfl) (fun b12 => ?_)
      refine zs_join (pc := 101) (fun (p13 : zm_S) => p13) 157 (fun (p13 : zm_S) => [(0, .ref m), (1, .int t83.1)]) (fun (p13 : zm_S) => []) (fun p13 => ?_) (fun h157 => ?_)
      · refine zs_iinc (pc := 157) (lv' := [(0, .ref m), (1, .int (t83.1 + 1))]) 1 [1, 0] dX10_fillsPlans_157 rfl rfl (by decide) rfl ?_
        refine zs_goto (pc := 160) (tgt := 83) dX10_fillsPlans_160 (by decide) ?_
        exact hL83 ((t83.1 + 1), p13)
      · refine zs_if_t (pc := 101) (tgt := 107) dX10_fillsPlans_101 (by decide) ?_ ?_
        · refine zs_aload_n (pc := 107) 0 dX10_fillsPlans_107 rfl rfl ?_
          refine zm_geta (pc := 108) 57 36 (by decide) rfl q1590 dX10_fillsPlans_108 ?_
          refine zs_iload_n (pc := 111) 1 dX10_fillsPlans_111 rfl rfl ?_
          refine zs_aload_n (pc := 112) 0 dX10_fillsPlans_112 rfl rfl ?_
          refine zs_iload_n (pc := 113) 1 dX10_fillsPlans_113 rfl rfl ?_
          refine zs_bipush (pc := 114) (v := 6) dX10_fillsPlans_114 (by decide) ?_
          refine zs_idivK (pc := 116) dX10_fillsPlans_116 (by decide) ?_
          refine zs_iload_n (pc := 117) 1 dX10_fillsPlans_117 rfl rfl ?_
          refine zs_bipush (pc := 118) (v := 6) dX10_fillsPlans_118 (by decide) ?_
          refine zs_iremK (pc := 120) dX10_fillsPlans_120 (by decide) ?_
          refine zs_callVwI (pc := 121) [.int (t83.1 / 6), .int (zs_rem t83.1 6)] [.int t83.1, .ref (m + (36 + 1))] (km_joinsOf D h0 m t83.2 (t83.1 / 6) (zs_rem t83.1 6)) kv_joinsOf q1936 zc_X10 zm_recv dX10_fillsPlans_121 rfl rfl (Nat.le_of_ble_eq_true rfl) (Nat.le_of_ble_eq_true rfl) (fun p14 => ?_)
          refine zm_iast (pc := 124) 57 36 zm_p57 dX10_fillsPlans_124 (fun M15 => ?_)
          refine zs_aload_n (pc := 125) 0 dX10_fillsPlans_125 rfl rfl ?_
          refine zm_geta (pc := 126) 58 37 (by decide) rfl q1591 dX10_fillsPlans_126 ?_
          refine zs_iload_n (pc := 129) 1 dX10_fillsPlans_129 rfl rfl ?_
          refine zs_aload_n (pc := 130) 0 dX10_fillsPlans_130 rfl rfl ?_
          refine zs_iload_n (pc := 131) 1 dX10_fillsPlans_131 rfl rfl ?_
          refine zs_bipush (pc := 132) (v := 6) dX10_fillsPlans_132 (by decide) ?_
          refine zs_idivK (pc := 134) dX10_fillsPlans_134 (by decide) ?_
          refine zs_iload_n (pc := 135) 1 dX10_fillsPlans_135 rfl rfl ?_
          refine zs_bipush (pc := 136) (v := 6) dX10_fillsPlans_136 (by decide) ?_
          refine zs_iremK (pc := 138) dX10_fillsPlans_138 (by decide) ?_
          refine zs_bipush (pc := 139) (v := 9) dX10_fillsPlans_139 (by decide) ?_
          refine zs_callVwI (pc := 141) [.int (t83.1 / 6), .int (zs_rem t83.1 6), .int 9] [.int t83.1, .ref (m + (37 + 1))] (km_joinsBy D h0 m M15 (t83.1 / 6) (zs_rem t83.1 6) 9) kv_joinsBy q1940 zc_X10 zm_recv dX10_fillsPlans_141 rfl rfl (Nat.le_of_ble_eq_true rfl) (Nat.le_of_ble_eq_true rfl) (fun p16 => ?_)
          refine zm_iast (pc := 144) 58 37 zm_p58 dX10_fillsPlans_144 (fun M17 => ?_)
          refine zs_aload_n (pc := 145) 0 dX10_fillsPlans_145 rfl rfl ?_
          refine zm_geta (pc := 146) 59 38 (by decide) rfl q1592 dX10_fillsPlans_146 ?_
          refine zs_iload_n (pc := 149) 1 dX10_fillsPlans_149 rfl rfl ?_
          refine zs_aload_n (pc := 150) 0 dX10_fillsPlans_150 rfl rfl ?_
          refine zm_geta (pc := 151) 57 36 (by decide) rfl q1590 dX10_fillsPlans_151 ?_
          refine zs_iload_n (pc := 154) 1 dX10_fillsPlans_154 rfl rfl ?_
          refine zm_iald (pc := 155) 57 36 zm_p57 dX10_fillsPlans_155 (fun x18 => ?_)
          refine zm_iast (pc := 156) 59 38 zm_p59 dX10_fillsPlans_156 (fun M19 => ?_)
          exact h157 M19
        · refine zs_goto (pc := 104) (tgt := 157) dX10_fillsPlans_104 (by decide) ?_
          exact h157 t83.2
    · exact zs_vret (pc := 163) dX10_fillsPlans_163 ((hR83 _).trans rfl) rfl
  · unfold gm_fillsPlans_L2
    refine zs_iload_n (pc := 2) 1 dX10_fillsPlans_2 rfl rfl ?_
    refine zs_bipush (pc := 3) (v := 6) dX10_fillsPlans_3 (by decide) ?_
    refine zs_icmp_ge (pc := 5) (tgt := 81) dX10_fillsPlans_5 (by decide) ?_ ?_
    · refine zs_aload_n (pc := 8) 0 dX10_fillsPlans_8 rfl rfl ?_
      refine zm_geta (pc := 9) 55 34 (by decide) rfl q1588 dX10_fillsPlans_9 ?_
      refine zs_iload_n (pc := 12) 1 dX10_fillsPlans_12 rfl rfl ?_
      refine zs_aload_n (pc := 13) 0 dX10_fillsPlans_13 rfl rfl ?_
      refine zs_iload_n (pc := 14) 1 dX10_fillsPlans_14 rfl rfl ?_
      refine zs_callVrB (pc := 15) [.int t2.1] [.int t2.1, .ref (m + (34 + 1))] (km_isHouse D h0 m t2.2 t2.1) kv_isHouse q1866 zc_X10 zm_recv dX10_fillsPlans_15 rfl rfl (Nat.le_of_ble_eq_true rfl) (Nat.le_of_ble_eq_true rfl) (fun b1 => ?_)
      refine zs_join (pc := 18) (fun (p2 : Int32) => t2.2) 51 (fun (p2 : Int32) => [(0, .ref m), (1, .int t2.1)]) (fun (p2 : Int32) => [.int p2, .int t2.1, .ref (m + (34 + 1))]) (fun p2 => ?_) (fun h51 => ?_)
      · refine zm_iast (pc := 51) 55 34 zm_p55 dX10_fillsPlans_51 (fun M3 => ?_)
        refine zs_aload_n (pc := 52) 0 dX10_fillsPlans_52 rfl rfl ?_
        refine zm_geta (pc := 53) 56 35 (by decide) rfl q1589 dX10_fillsPlans_53 ?_
        refine zs_iload_n (pc := 56) 1 dX10_fillsPlans_56 rfl rfl ?_
        refine zs_aload_n (pc := 57) 0 dX10_fillsPlans_57 rfl rfl ?_
        refine zs_iload_n (pc := 58) 1 dX10_fillsPlans_58 rfl rfl ?_
        refine zs_callVrB (pc := 59) [.int t2.1] [.int t2.1, .ref (m + (35 + 1))] (km_isHouse D h0 m M3 t2.1) kv_isHouse q1866 zc_X10 zm_recv dX10_fillsPlans_59 rfl rfl (Nat.le_of_ble_eq_true rfl) (Nat.le_of_ble_eq_true rfl) (fun b4 => ?_)
        refine zs_join (pc := 62) (fun (p5 : Int32) => M3) 74 (fun (p5 : Int32) => [(0, .ref m), (1, .int t2.1)]) (fun (p5 : Int32) => [.int p5, .int t2.1, .ref (m + (35 + 1))]) (fun p5 => ?_) (fun h74 => ?_)
        · refine zm_iast (pc := 74) 56 35 zm_p56 dX10_fillsPlans_74 (fun M6 => ?_)
          refine zs_iinc (pc := 75) (lv' := [(0, .ref m), (1, .int (t2.1 + 1))]) 1 [1, 0] dX10_fillsPlans_75 rfl rfl (by decide) rfl ?_
          refine zs_goto (pc := 78) (tgt := 2) dX10_fillsPlans_78 (by decide) ?_
          exact hL2 ((t2.1 + 1), M6)
        · refine zs_if_f (pc := 62) (tgt := 73) dX10_fillsPlans_62 (by decide) ?_ ?_
          · refine zs_aload_n (pc := 65) 0 dX10_fillsPlans_65 rfl rfl ?_
            refine zs_iload_n (pc := 66) 1 dX10_fillsPlans_66 rfl rfl ?_
            refine zs_callVrI (pc := 67) [.int t2.1] [.int t2.1, .ref (m + (35 + 1))] (km_strongOf D h0 m M3 t2.1) kv_strongOf q1897 zc_X10 zm_recv dX10_fillsPlans_67 rfl rfl (Nat.le_of_ble_eq_true rfl) (Nat.le_of_ble_eq_true rfl) (fun x7 => ?_)
            refine zs_goto (pc := 70) (tgt := 74) dX10_fillsPlans_70 (by decide) ?_
            exact h74 x7
          · refine zs_iconst (pc := 73) (v := 0) dX10_fillsPlans_73 rfl ?_
            exact h74 0
      · refine zs_if_f (pc := 18) (tgt := 50) dX10_fillsPlans_18 (by decide) ?_ ?_
        · refine zs_aload_n (pc := 21) 0 dX10_fillsPlans_21 rfl rfl ?_
          refine zs_iload_n (pc := 22) 1 dX10_fillsPlans_22 rfl rfl ?_
          refine zs_callVrB (pc := 23) [.int t2.1] [.int t2.1, .ref (m + (34 + 1))] (km_hasPlait D h0 m t2.2 t2.1) kv_hasPlait q1881 zc_X10 zm_recv dX10_fillsPlans_23 rfl rfl (Nat.le_of_ble_eq_true rfl) (Nat.le_of_ble_eq_true rfl) (fun b8 => ?_)
          refine zs_if_f (pc := 26) (tgt := 41) dX10_fillsPlans_26 (by decide) ?_ ?_
          · refine zs_aload_n (pc := 29) 0 dX10_fillsPlans_29 rfl rfl ?_
            refine zm_geta (pc := 30) 48 30 (by decide) rfl q1581 dX10_fillsPlans_30 ?_
            refine zs_bipush (pc := 33) (v := 6) dX10_fillsPlans_33 (by decide) ?_
            refine zs_iload_n (pc := 35) 1 dX10_fillsPlans_35 rfl rfl ?_
            refine zs_iadd (pc := 36) dX10_fillsPlans_36 ?_
            refine zm_iald (pc := 37) 48 30 zm_p48 dX10_fillsPlans_37 (fun x10 => ?_)
            refine zs_goto (pc := 38) (tgt := 51) dX10_fillsPlans_38 (by decide) ?_
            exact h51 x10
          · refine zs_aload_n (pc := 41) 0 dX10_fillsPlans_41 rfl rfl ?_
            refine zm_geta (pc := 42) 48 30 (by decide) rfl q1581 dX10_fillsPlans_42 ?_
            refine zs_iload_n (pc := 45) 1 dX10_fillsPlans_45 rfl rfl ?_
            refine zm_iald (pc := 46) 48 30 zm_p48 dX10_fillsPlans_46 (fun x9 => ?_)
            refine zs_goto (pc := 47) (tgt := 51) dX10_fillsPlans_47 (by decide) ?_
            exact h51 x9
        · refine zs_iconst (pc := 50) (v := 0) dX10_fillsPlans_50 rfl ?_
          exact h51 0
    · refine zs_sub (lv' := [(0, .ref m)]) [0] rfl ?_
      exact hE2 t2.2
theorem kv_isIn : zs_mV RX10 yX10_isIn cX10_isIn 3 (some .boolean) 1 := ⟨q2080, qs117, q152, q2081, by decide, by decide +kernel⟩
def gm_isIn_L2 (M : zm_S) (a1 : Int32) : (Int32) → Option ((Int32) ⊕ (Bool)) := fun t2 =>
if t2 < (M.1 61) then ((zs_ald 6 (M.2.1 60) t2).bind fun x1 =>
if x1 = a1 then (some (Sum.inr true))
else (some (Sum.inl (t2 + 1))))
else (some (Sum.inr false))
def gm_isIn (M : zm_S) (a1 : Int32) : Option (Bool) :=
(zs_loop 5000 (gm_isIn_L2 M a1) 0).bind fun z => some z
set_option maxHeartbeats 4000000 in
theorem km_isIn (D : zs_D) (h0 : zs_AH) (m : Nat) (M : zm_S) (a1 : Int32) : zs_Con D (zm_R h0 m) zm_bd zs_eB yX10_isIn cX10_isIn 3 (some .boolean) 0 [.ref m, .int a1] M ((gm_isIn M a1).map fun x => (x, M)) := by
  unfold gm_isIn
  refine zs_conR (own := RX10) (nm := "isIn") pl_X10 rfl rfl (Nat.le_of_ble_eq_true rfl) ?_
  refine zs_lv (lv' := [(0, .ref m), (1, .int a1)]) rfl ?_
  refine zs_iconst (pc := 0) (v := 0) dX10_isIn_0 rfl ?_
  refine zs_istore_n (pc := 1) (lv' := [(0, .ref m), (1, .int a1), (2, .int 0)]) [1, 2, 0] dX10_isIn_1 rfl (by decide) rfl ?_
  refine zs_whileX (pc := 2) (fun (t2 : Int32) => M) (fun (t2 : Int32) => [(0, .ref m), (1, .int a1), (2, .int t2)]) 5000 0 (fun X2 hL2 hR2 t2 => ?_)
  unfold gm_isIn_L2
  refine zs_iload_n (pc := 2) 2 dX10_isIn_2 rfl rfl ?_
  refine zs_aload_n (pc := 3) 0 dX10_isIn_3 rfl rfl ?_
  refine zm_geti (pc := 4) 61 (by decide) rfl q1594 dX10_isIn_4 ?_
  refine zs_icmp_ge (pc := 7) (tgt := 28) dX10_isIn_7 (by decide) ?_ ?_
  · refine zs_aload_n (pc := 10) 0 dX10_isIn_10 rfl rfl ?_
    refine zm_geta (pc := 11) 60 39 (by decide) rfl q1593 dX10_isIn_11 ?_
    refine zs_iload_n (pc := 14) 2 dX10_isIn_14 rfl rfl ?_
    refine zm_iald (pc := 15) 60 39 zm_p60 dX10_isIn_15 (fun x1 => ?_)
    refine zs_iload_n (pc := 16) 1 dX10_isIn_16 rfl rfl ?_
    refine zs_icmp_ne (pc := 17) (tgt := 22) dX10_isIn_17 (by decide) ?_ ?_
    · refine zs_iconst (pc := 20) (v := 1) dX10_isIn_20 rfl ?_
      exact zs_iret (pc := 21) dX10_isIn_21 ((hR2 _).trans rfl) rfl rfl
    · refine zs_iinc (pc := 22) (lv' := [(0, .ref m), (1, .int a1), (2, .int (t2 + 1))]) 2 [1, 2, 0] dX10_isIn_22 rfl rfl (by decide) rfl ?_
      refine zs_goto (pc := 25) (tgt := 2) dX10_isIn_25 (by decide) ?_
      exact hL2 (t2 + 1)
  · refine zs_iconst (pc := 28) (v := 0) dX10_isIn_28 rfl ?_
    exact zs_iret (pc := 29) dX10_isIn_29 ((hR2 _).trans rfl) rfl rfl
theorem kv_nextFrom : zs_mV RX10 yX10_nextFrom cX10_nextFrom 3 (some .int) 1 := ⟨q2076, qs116, q152, q2077, by decide, by decide +kernel⟩
def gm_nextFrom_L2 (M : zm_S) : (Int32) → Option ((Int32) ⊕ (Int32)) := fun t2 =>
if t2 < 6 then ((zs_ald 6 (M.2.1 55) t2).bind fun x1 =>
zs_let (fun (p2 : Unit) => some (Sum.inl (t2 + 1))) fun J27 =>
if 0 < x1 then ((gm_isIn M t2).bind fun b3 =>
if b3 = true then (J27 ())
else (some (Sum.inr t2)))
else (J27 ()))
else (some (Sum.inr (-1)))
def gm_nextFrom (M : zm_S) (a1 : Int32) : Option (Int32) :=
(zs_loop 5000 (gm_nextFrom_L2 M) a1).bind fun z => some z
set_option maxHeartbeats 4000000 in
theorem km_nextFrom (D : zs_D) (h0 : zs_AH) (m : Nat) (M : zm_S) (a1 : Int32) : zs_Con D (zm_R h0 m) zm_bd zs_eI yX10_nextFrom cX10_nextFrom 3 (some .int) 1 [.ref m, .int a1] M ((gm_nextFrom M a1).map fun x => (x, M)) := by
  unfold gm_nextFrom
  refine zs_conR (own := RX10) (nm := "nextFrom") pl_X10 rfl rfl (Nat.le_of_ble_eq_true rfl) ?_
  refine zs_lv (lv' := [(0, .ref m), (1, .int a1)]) rfl ?_
  refine zs_iload_n (pc := 0) 1 dX10_nextFrom_0 rfl rfl ?_
  refine zs_istore_n (pc := 1) (lv' := [(0, .ref m), (1, .int a1), (2, .int a1)]) [1, 2, 0] dX10_nextFrom_1 rfl (by decide) rfl ?_
  refine zs_sub (pc := 2) (lv' := [(0, .ref m), (2, .int a1)]) [0, 2] rfl ?_
  refine zs_whileX (pc := 2) (fun (t2 : Int32) => M) (fun (t2 : Int32) => [(0, .ref m), (2, .int t2)]) 5000 a1 (fun X2 hL2 hR2 t2 => ?_)
  unfold gm_nextFrom_L2
  refine zs_iload_n (pc := 2) 1 dX10_nextFrom_2 rfl rfl ?_
  refine zs_bipush (pc := 3) (v := 6) dX10_nextFrom_3 (by decide) ?_
  refine zs_icmp_ge (pc := 5) (tgt := 33) dX10_nextFrom_5 (by decide) ?_ ?_
  · refine zs_aload_n (pc := 8) 0 dX10_nextFrom_8 rfl rfl ?_
    refine zm_geta (pc := 9) 55 34 (by decide) rfl q1588 dX10_nextFrom_9 ?_
    refine zs_iload_n (pc := 12) 1 dX10_nextFrom_12 rfl rfl ?_
    refine zm_iald (pc := 13) 55 34 zm_p55 dX10_nextFrom_13 (fun x1 => ?_)
    refine zs_letJ (pc := 14) (fun (p2 : Unit) => M) 27 (fun (p2 : Unit) => [(0, .ref m), (2, .int t2)]) (fun (p2 : Unit) => []) (fun p2 => ?_) (fun J27 h27 => ?_)
    · refine zs_iinc (pc := 27) (lv' := [(0, .ref m), (2, .int (t2 + 1))]) 1 [1, 0] dX10_nextFrom_27 rfl rfl (by decide) rfl ?_
      refine zs_goto (pc := 30) (tgt := 2) dX10_nextFrom_30 (by decide) ?_
      exact hL2 (t2 + 1)
    · refine zs_if_le (pc := 14) (tgt := 27) dX10_nextFrom_14 (by decide) ?_ ?_
      · refine zs_aload_n (pc := 17) 0 dX10_nextFrom_17 rfl rfl ?_
        refine zs_iload_n (pc := 18) 1 dX10_nextFrom_18 rfl rfl ?_
        refine zs_callVrB (pc := 19) [.int t2] [] (km_isIn D h0 m M t2) kv_isIn q2078 zc_X10 zm_recv dX10_nextFrom_19 rfl rfl (Nat.le_of_ble_eq_true rfl) (Nat.le_of_ble_eq_true rfl) (fun b3 => ?_)
        refine zs_if_t (pc := 22) (tgt := 27) dX10_nextFrom_22 (by decide) ?_ ?_
        · exact h27 ()
        · refine zs_iload_n (pc := 25) 1 dX10_nextFrom_25 rfl rfl ?_
          exact zs_iret (pc := 26) dX10_nextFrom_26 ((hR2 _).trans rfl) rfl rfl
      · exact h27 ()
  · refine zs_iconst (pc := 33) (v := (-1)) dX10_nextFrom_33 rfl ?_
    exact zs_iret (pc := 34) dX10_nextFrom_34 ((hR2 _).trans rfl) rfl rfl
theorem kv_goesToNext : zs_mV RX10 yX10_goesToNext cX10_goesToNext 2 (some .boolean) 0 := ⟨q2072, qs115, q152, q2073, by decide, by decide +kernel⟩
def gm_goesToNext_L6 : (Int32 × zm_S) → Option ((Int32 × zm_S) ⊕ (Int32 × zm_S)) := fun t6 =>
if t6.1 < 0 then (if 0 < (t6.2.1 61) then ((some (zm_sF t6.2 61 ((t6.2.1 61) - 1))).bind fun M2 =>
(zs_ald 6 (M2.2.1 60) (M2.1 61)).bind fun x3 =>
(gm_nextFrom M2 (x3 + 1)).bind fun x4 =>
some (Sum.inl (x4, M2)))
else (some (Sum.inr (t6.1, t6.2))))
else (some (Sum.inr (t6.1, t6.2)))
def gm_goesToNext (M : zm_S) : Option (Bool × zm_S) :=
(gm_nextFrom M 0).bind fun x1 =>
(zs_loop 5000 gm_goesToNext_L6 (x1, M)).bind fun (r5 : Int32 × zm_S) =>
if r5.1 < 0 then (some (false, r5.2))
else ((zs_ast 6 (r5.2.1 61) (zm_sA r5.2 60 (r5.2.1 61) r5.1)).bind fun M6 =>
(some (zm_sF M6 61 ((M6.1 61) + 1))).bind fun M7 =>
some (true, M7))
set_option maxHeartbeats 4000000 in
theorem km_goesToNext (D : zs_D) (h0 : zs_AH) (m : Nat) (M : zm_S) : zs_Con D (zm_R h0 m) zm_bd zs_eB yX10_goesToNext cX10_goesToNext 2 (some .boolean) 2 [.ref m] M (gm_goesToNext M) := by
  unfold gm_goesToNext
  refine zs_con (own := RX10) (nm := "goesToNext") pl_X10 rfl rfl (Nat.le_of_ble_eq_true rfl) ?_
  refine zs_lv (lv' := [(0, .ref m)]) rfl ?_
  refine zs_aload_n (pc := 0) 0 dX10_goesToNext_0 rfl rfl ?_
  refine zs_iconst (pc := 1) (v := 0) dX10_goesToNext_1 rfl ?_
  refine zs_callVrI (pc := 2) [.int 0] [] (km_nextFrom D h0 m M 0) kv_nextFrom q2074 zc_X10 zm_recv dX10_goesToNext_2 rfl rfl (Nat.le_of_ble_eq_true rfl) (Nat.le_of_ble_eq_true rfl) (fun x1 => ?_)
  refine zs_istore_n (pc := 5) (lv' := [(0, .ref m), (1, .int x1)]) [1, 0] dX10_goesToNext_5 rfl (by decide) rfl ?_
  refine zs_whileJ (pc := 6) (fun (t6 : Int32 × zm_S) => t6.2) (fun (t6 : Int32 × zm_S) => [(0, .ref m), (1, .int t6.1)]) 5000 (x1, M) (fun (r5 : Int32 × zm_S) => r5.2) 46 (fun (r5 : Int32 × zm_S) => [(0, .ref m), (1, .int r5.1)]) [] (fun r5 => ?_) (fun X6 hL6 hE6 t6 => ?_)
  · refine zs_iload_n (pc := 46) 1 dX10_goesToNext_46 rfl rfl ?_
    refine zs_if_ge (pc := 47) (tgt := 52) dX10_goesToNext_47 (by decide) ?_ ?_
    · refine zs_iconst (pc := 50) (v := 0) dX10_goesToNext_50 rfl ?_
      exact zs_iret (pc := 51) dX10_goesToNext_51 rfl rfl rfl
    · refine zs_aload_n (pc := 52) 0 dX10_goesToNext_52 rfl rfl ?_
      refine zm_geta (pc := 53) 60 39 (by decide) rfl q1593 dX10_goesToNext_53 ?_
      refine zs_aload_n (pc := 56) 0 dX10_goesToNext_56 rfl rfl ?_
      refine zm_geti (pc := 57) 61 (by decide) rfl q1594 dX10_goesToNext_57 ?_
      refine zs_iload_n (pc := 60) 1 dX10_goesToNext_60 rfl rfl ?_
      refine zm_iast (pc := 61) 60 39 zm_p60 dX10_goesToNext_61 (fun M6 => ?_)
      refine zs_aload_n (pc := 62) 0 dX10_goesToNext_62 rfl rfl ?_
      refine zs_dup (pc := 63) dX10_goesToNext_63 rfl ?_
      refine zm_geti (pc := 64) 61 (by decide) rfl q1594 dX10_goesToNext_64 ?_
      refine zs_iconst (pc := 67) (v := 1) dX10_goesToNext_67 rfl ?_
      refine zs_iadd (pc := 68) dX10_goesToNext_68 ?_
      refine zm_puti (pc := 69) 61 (by decide) rfl q1594 rfl rfl rfl dX10_goesToNext_69 ?_
      refine zs_nmM (fun M7 => ?_)
      refine zs_iconst (pc := 72) (v := 1) dX10_goesToNext_72 rfl ?_
      exact zs_iret (pc := 73) dX10_goesToNext_73 rfl rfl rfl
  · unfold gm_goesToNext_L6
    refine zs_iload_n (pc := 6) 1 dX10_goesToNext_6 rfl rfl ?_
    refine zs_if_ge (pc := 7) (tgt := 46) dX10_goesToNext_7 (by decide) ?_ ?_
    · refine zs_aload_n (pc := 10) 0 dX10_goesToNext_10 rfl rfl ?_
      refine zm_geti (pc := 11) 61 (by decide) rfl q1594 dX10_goesToNext_11 ?_
      refine zs_if_le (pc := 14) (tgt := 46) dX10_goesToNext_14 (by decide) ?_ ?_
      · refine zs_aload_n (pc := 17) 0 dX10_goesToNext_17 rfl rfl ?_
        refine zs_dup (pc := 18) dX10_goesToNext_18 rfl ?_
        refine zm_geti (pc := 19) 61 (by decide) rfl q1594 dX10_goesToNext_19 ?_
        refine zs_iconst (pc := 22) (v := 1) dX10_goesToNext_22 rfl ?_
        refine zs_isub (pc := 23) dX10_goesToNext_23 ?_
        refine zm_puti (pc := 24) 61 (by decide) rfl q1594 rfl rfl rfl dX10_goesToNext_24 ?_
        refine zs_nmM (fun M2 => ?_)
        refine zs_aload_n (pc := 27) 0 dX10_goesToNext_27 rfl rfl ?_
        refine zs_aload_n (pc := 28) 0 dX10_goesToNext_28 rfl rfl ?_
        refine zm_geta (pc := 29) 60 39 (by decide) rfl q1593 dX10_goesToNext_29 ?_
        refine zs_aload_n (pc := 32) 0 dX10_goesToNext_32 rfl rfl ?_
        refine zm_geti (pc := 33) 61 (by decide) rfl q1594 dX10_goesToNext_33 ?_
        refine zm_iald (pc := 36) 60 39 zm_p60 dX10_goesToNext_36 (fun x3 => ?_)
        refine zs_iconst (pc := 37) (v := 1) dX10_goesToNext_37 rfl ?_
        refine zs_iadd (pc := 38) dX10_goesToNext_38 ?_
        refine zs_callVrI (pc := 39) [.int (x3 + 1)] [] (km_nextFrom D h0 m M2 (x3 + 1)) kv_nextFrom q2074 zc_X10 zm_recv dX10_goesToNext_39 rfl rfl (Nat.le_of_ble_eq_true rfl) (Nat.le_of_ble_eq_true rfl) (fun x4 => ?_)
        refine zs_istore_n (pc := 42) (lv' := [(0, .ref m), (1, .int x4)]) [1, 0] dX10_goesToNext_42 rfl (by decide) rfl ?_
        refine zs_goto (pc := 43) (tgt := 6) dX10_goesToNext_43 (by decide) ?_
        exact hL6 (x4, M2)
      · exact hE6 (t6.1, t6.2)
    · exact hE6 (t6.1, t6.2)
theorem kv_orderSpare : zs_mV RX10 yX10_orderSpare cX10_orderSpare 5 (some .int) 0 := ⟨q2084, qs118, q152, q2085, by decide, by decide +kernel⟩
def gm_orderSpare_L13 (M : zm_S) : (Int32 × Int32 × Int32) → Option ((Int32 × Int32 × Int32) ⊕ (Int32 × Int32)) := fun t13 =>
if t13.2.2 < 0 then (some (Sum.inr (t13.1, t13.2.1)))
else ((zs_ald 6 (M.2.1 60) t13.2.2).bind fun x2 =>
(zs_ald 6 (M.2.1 56) x2).bind fun x3 =>
(if (x3 - t13.2.1) < t13.1 then ((zs_ald 6 (M.2.1 56) x2).bind fun x13 =>
(some (x13 - t13.2.1)).bind fun x14 =>
some x14)
else (some t13.1)).bind fun (p4 : Int32) =>
(zs_ald 6 (M.2.1 55) x2).bind fun x5 =>
(some (t13.2.1 + x5)).bind fun x6 =>
(if 0 < t13.2.2 then ((zs_ald 6 (M.2.1 60) (t13.2.2 - 1)).bind fun x8 =>
(zs_ald 36 (M.2.1 59) ((6 * x8) + x2)).bind fun x9 =>
if (x9 - x6) < p4 then ((zs_ald 6 (M.2.1 60) (t13.2.2 - 1)).bind fun x10 =>
(zs_ald 36 (M.2.1 59) ((6 * x10) + x2)).bind fun x11 =>
(some (x11 - x6)).bind fun x12 =>
some x12)
else (some p4))
else (some p4)).bind fun (p7 : Int32) =>
some (Sum.inl (p7, x6, (t13.2.2 + (-1)))))
def gm_orderSpare (M : zm_S) : Option (Int32) :=
(some ((M.1 61) - 1)).bind fun x1 =>
(zs_loop 5000 (gm_orderSpare_L13 M) (999, 0, x1)).bind fun (r15 : Int32 × Int32) =>
(zs_ald 2 (M.2.1 27) (M.1 18)).bind fun x16 =>
zs_let (fun (p17 : Unit) => some (-1)) fun J132 =>
if r15.2 < x16 then (J132 ())
else (if r15.1 < 0 then (J132 ())
else (some r15.1))
set_option maxHeartbeats 4000000 in
theorem km_orderSpare (D : zs_D) (h0 : zs_AH) (m : Nat) (M : zm_S) : zs_Con D (zm_R h0 m) zm_bd zs_eI yX10_orderSpare cX10_orderSpare 5 (some .int) 0 [.ref m] M ((gm_orderSpare M).map fun x => (x, M)) := by
  unfold gm_orderSpare
  refine zs_conR (own := RX10) (nm := "orderSpare") pl_X10 rfl rfl (Nat.le_of_ble_eq_true rfl) ?_
  refine zs_lv (lv' := [(0, .ref m)]) rfl ?_
  refine zs_sipush (pc := 0) (v := 999) dX10_orderSpare_0 (by decide) ?_
  refine zs_istore_n (pc := 3) (lv' := [(0, .ref m), (1, .int 999)]) [1, 0] dX10_orderSpare_3 rfl (by decide) rfl ?_
  refine zs_iconst (pc := 4) (v := 0) dX10_orderSpare_4 rfl ?_
  refine zs_istore_n (pc := 5) (lv' := [(0, .ref m), (1, .int 999), (2, .int 0)]) [1, 2, 0] dX10_orderSpare_5 rfl (by decide) rfl ?_
  refine zs_aload_n (pc := 6) 0 dX10_orderSpare_6 rfl rfl ?_
  refine zm_geti (pc := 7) 61 (by decide) rfl q1594 dX10_orderSpare_7 ?_
  refine zs_iconst (pc := 10) (v := 1) dX10_orderSpare_10 rfl ?_
  refine zs_isub (pc := 11) dX10_orderSpare_11 ?_
  refine zs_nm (fun x1 => ?_)
  refine zs_istore_n (pc := 12) (lv' := [(0, .ref m), (1, .int 999), (2, .int 0), (3, .int x1)]) [1, 2, 3, 0] dX10_orderSpare_12 rfl (by decide) rfl ?_
  refine zs_whileJ (pc := 13) (fun (t13 : Int32 × Int32 × Int32) => M) (fun (t13 : Int32 × Int32 × Int32) => [(0, .ref m), (1, .int t13.1), (2, .int t13.2.1), (3, .int t13.2.2)]) 5000 (999, 0, x1) (fun (r15 : Int32 × Int32) => M) 115 (fun (r15 : Int32 × Int32) => [(0, .ref m), (1, .int r15.1), (2, .int r15.2)]) [] (fun r15 => ?_) (fun X13 hL13 hE13 t13 => ?_)
  · refine zs_iload_n (pc := 115) 2 dX10_orderSpare_115 rfl rfl ?_
    refine zs_aload_n (pc := 116) 0 dX10_orderSpare_116 rfl rfl ?_
    refine zm_geta (pc := 117) 27 13 (by decide) rfl q1560 dX10_orderSpare_117 ?_
    refine zs_aload_n (pc := 120) 0 dX10_orderSpare_120 rfl rfl ?_
    refine zm_geti (pc := 121) 18 (by decide) rfl q1551 dX10_orderSpare_121 ?_
    refine zm_iald (pc := 124) 27 13 zm_p27 dX10_orderSpare_124 (fun x16 => ?_)
    refine zs_letJ (pc := 125) (fun (p17 : Unit) => M) 132 (fun (p17 : Unit) => []) (fun (p17 : Unit) => []) (fun p17 => ?_) (fun J132 h132 => ?_)
    · refine zs_iconst (pc := 132) (v := (-1)) dX10_orderSpare_132 rfl ?_
      refine zs_goto (pc := 133) (tgt := 137) dX10_orderSpare_133 (by decide) ?_
      exact zs_iret (pc := 137) dX10_orderSpare_137 rfl rfl rfl
    · refine zs_icmp_lt (pc := 125) (tgt := 132) dX10_orderSpare_125 (by decide) ?_ ?_
      · refine zs_sub (lv' := []) [] rfl ?_
        exact h132 ()
      · refine zs_iload_n (pc := 128) 1 dX10_orderSpare_128 rfl rfl ?_
        refine zs_if_ge (pc := 129) (tgt := 136) dX10_orderSpare_129 (by decide) ?_ ?_
        · refine zs_sub (lv' := []) [] rfl ?_
          exact h132 ()
        · refine zs_iload_n (pc := 136) 1 dX10_orderSpare_136 rfl rfl ?_
          exact zs_iret (pc := 137) dX10_orderSpare_137 rfl rfl rfl
  · unfold gm_orderSpare_L13
    refine zs_iload_n (pc := 13) 3 dX10_orderSpare_13 rfl rfl ?_
    refine zs_if_lt (pc := 14) (tgt := 115) dX10_orderSpare_14 (by decide) ?_ ?_
    · refine zs_sub (lv' := [(0, .ref m), (1, .int t13.1), (2, .int t13.2.1)]) [0, 1, 2] rfl ?_
      exact hE13 (t13.1, t13.2.1)
    · refine zs_aload_n (pc := 17) 0 dX10_orderSpare_17 rfl rfl ?_
      refine zm_geta (pc := 18) 60 39 (by decide) rfl q1593 dX10_orderSpare_18 ?_
      refine zs_iload_n (pc := 21) 3 dX10_orderSpare_21 rfl rfl ?_
      refine zm_iald (pc := 22) 60 39 zm_p60 dX10_orderSpare_22 (fun x2 => ?_)
      refine zs_istore (pc := 23) (lv' := [(0, .ref m), (1, .int t13.1), (2, .int t13.2.1), (3, .int t13.2.2), (4, .int x2)]) [1, 2, 3, 4, 0] dX10_orderSpare_23 (by decide) rfl ?_
      refine zs_aload_n (pc := 25) 0 dX10_orderSpare_25 rfl rfl ?_
      refine zm_geta (pc := 26) 56 35 (by decide) rfl q1589 dX10_orderSpare_26 ?_
      refine zs_iload (pc := 29) 4 dX10_orderSpare_29 rfl ?_
      refine zm_iald (pc := 31) 56 35 zm_p56 dX10_orderSpare_31 (fun x3 => ?_)
      refine zs_iload_n (pc := 32) 2 dX10_orderSpare_32 rfl rfl ?_
      refine zs_isub (pc := 33) dX10_orderSpare_33 ?_
      refine zs_iload_n (pc := 34) 1 dX10_orderSpare_34 rfl rfl ?_
      refine zs_join (pc := 35) (fun (p4 : Int32) => M) 48 (fun (p4 : Int32) => [(0, .ref m), (1, .int p4), (2, .int t13.2.1), (3, .int t13.2.2), (4, .int x2)]) (fun (p4 : Int32) => []) (fun p4 => ?_) (fun h48 => ?_)
      · refine zs_iload_n (pc := 48) 2 dX10_orderSpare_48 rfl rfl ?_
        refine zs_aload_n (pc := 49) 0 dX10_orderSpare_49 rfl rfl ?_
        refine zm_geta (pc := 50) 55 34 (by decide) rfl q1588 dX10_orderSpare_50 ?_
        refine zs_iload (pc := 53) 4 dX10_orderSpare_53 rfl ?_
        refine zm_iald (pc := 55) 55 34 zm_p55 dX10_orderSpare_55 (fun x5 => ?_)
        refine zs_iadd (pc := 56) dX10_orderSpare_56 ?_
        refine zs_nm (fun x6 => ?_)
        refine zs_istore_n (pc := 57) (lv' := [(0, .ref m), (1, .int p4), (2, .int x6), (3, .int t13.2.2), (4, .int x2)]) [1, 2, 0, 3, 4] dX10_orderSpare_57 rfl (by decide) rfl ?_
        refine zs_iload_n (pc := 58) 3 dX10_orderSpare_58 rfl rfl ?_
        refine zs_join (pc := 59) (fun (p7 : Int32) => M) 109 (fun (p7 : Int32) => [(0, .ref m), (1, .int p7), (2, .int x6), (3, .int t13.2.2)]) (fun (p7 : Int32) => []) (fun p7 => ?_) (fun h109 => ?_)
        · refine zs_iinc (pc := 109) (lv' := [(0, .ref m), (1, .int p7), (2, .int x6), (3, .int (t13.2.2 + (-1)))]) 3 [1, 2, 3, 0] dX10_orderSpare_109 rfl rfl (by decide) rfl ?_
          refine zs_goto (pc := 112) (tgt := 13) dX10_orderSpare_112 (by decide) ?_
          exact hL13 (p7, x6, (t13.2.2 + (-1)))
        · refine zs_if_le (pc := 59) (tgt := 109) dX10_orderSpare_59 (by decide) ?_ ?_
          · refine zs_aload_n (pc := 62) 0 dX10_orderSpare_62 rfl rfl ?_
            refine zm_geta (pc := 63) 59 38 (by decide) rfl q1592 dX10_orderSpare_63 ?_
            refine zs_bipush (pc := 66) (v := 6) dX10_orderSpare_66 (by decide) ?_
            refine zs_aload_n (pc := 68) 0 dX10_orderSpare_68 rfl rfl ?_
            refine zm_geta (pc := 69) 60 39 (by decide) rfl q1593 dX10_orderSpare_69 ?_
            refine zs_iload_n (pc := 72) 3 dX10_orderSpare_72 rfl rfl ?_
            refine zs_iconst (pc := 73) (v := 1) dX10_orderSpare_73 rfl ?_
            refine zs_isub (pc := 74) dX10_orderSpare_74 ?_
            refine zm_iald (pc := 75) 60 39 zm_p60 dX10_orderSpare_75 (fun x8 => ?_)
            refine zs_imul (pc := 76) dX10_orderSpare_76 ?_
            refine zs_iload (pc := 77) 4 dX10_orderSpare_77 rfl ?_
            refine zs_iadd (pc := 79) dX10_orderSpare_79 ?_
            refine zm_iald (pc := 80) 59 38 zm_p59 dX10_orderSpare_80 (fun x9 => ?_)
            refine zs_iload_n (pc := 81) 2 dX10_orderSpare_81 rfl rfl ?_
            refine zs_isub (pc := 82) dX10_orderSpare_82 ?_
            refine zs_iload_n (pc := 83) 1 dX10_orderSpare_83 rfl rfl ?_
            refine zs_icmp_ge (pc := 84) (tgt := 109) dX10_orderSpare_84 (by decide) ?_ ?_
            · refine zs_aload_n (pc := 87) 0 dX10_orderSpare_87 rfl rfl ?_
              refine zm_geta (pc := 88) 59 38 (by decide) rfl q1592 dX10_orderSpare_88 ?_
              refine zs_bipush (pc := 91) (v := 6) dX10_orderSpare_91 (by decide) ?_
              refine zs_aload_n (pc := 93) 0 dX10_orderSpare_93 rfl rfl ?_
              refine zm_geta (pc := 94) 60 39 (by decide) rfl q1593 dX10_orderSpare_94 ?_
              refine zs_iload_n (pc := 97) 3 dX10_orderSpare_97 rfl rfl ?_
              refine zs_iconst (pc := 98) (v := 1) dX10_orderSpare_98 rfl ?_
              refine zs_isub (pc := 99) dX10_orderSpare_99 ?_
              refine zm_iald (pc := 100) 60 39 zm_p60 dX10_orderSpare_100 (fun x10 => ?_)
              refine zs_imul (pc := 101) dX10_orderSpare_101 ?_
              refine zs_iload (pc := 102) 4 dX10_orderSpare_102 rfl ?_
              refine zs_iadd (pc := 104) dX10_orderSpare_104 ?_
              refine zm_iald (pc := 105) 59 38 zm_p59 dX10_orderSpare_105 (fun x11 => ?_)
              refine zs_iload_n (pc := 106) 2 dX10_orderSpare_106 rfl rfl ?_
              refine zs_isub (pc := 107) dX10_orderSpare_107 ?_
              refine zs_nm (fun x12 => ?_)
              refine zs_istore_n (pc := 108) (lv' := [(0, .ref m), (1, .int x12), (2, .int x6), (3, .int t13.2.2), (4, .int x2)]) [1, 0, 2, 3, 4] dX10_orderSpare_108 rfl (by decide) rfl ?_
              refine zs_sub (lv' := [(0, .ref m), (1, .int x12), (2, .int x6), (3, .int t13.2.2)]) [0, 1, 2, 3] rfl ?_
              exact h109 x12
            · refine zs_sub (lv' := [(0, .ref m), (1, .int p4), (2, .int x6), (3, .int t13.2.2)]) [0, 1, 2, 3] rfl ?_
              exact h109 p4
          · refine zs_sub (lv' := [(0, .ref m), (1, .int p4), (2, .int x6), (3, .int t13.2.2)]) [0, 1, 2, 3] rfl ?_
            exact h109 p4
      · refine zs_icmp_ge (pc := 35) (tgt := 48) dX10_orderSpare_35 (by decide) ?_ ?_
        · refine zs_aload_n (pc := 38) 0 dX10_orderSpare_38 rfl rfl ?_
          refine zm_geta (pc := 39) 56 35 (by decide) rfl q1589 dX10_orderSpare_39 ?_
          refine zs_iload (pc := 42) 4 dX10_orderSpare_42 rfl ?_
          refine zm_iald (pc := 44) 56 35 zm_p56 dX10_orderSpare_44 (fun x13 => ?_)
          refine zs_iload_n (pc := 45) 2 dX10_orderSpare_45 rfl rfl ?_
          refine zs_isub (pc := 46) dX10_orderSpare_46 ?_
          refine zs_nm (fun x14 => ?_)
          refine zs_istore_n (pc := 47) (lv' := [(0, .ref m), (1, .int x14), (2, .int t13.2.1), (3, .int t13.2.2), (4, .int x2)]) [1, 0, 2, 3, 4] dX10_orderSpare_47 rfl (by decide) rfl ?_
          exact h48 x14
        · exact h48 t13.1
theorem kv_orders : zs_mV RX10 yX10_orders cX10_orders 3 (some .int) 1 := ⟨q2063, q2064, q152, q2065, by decide, by decide +kernel⟩
def gm_orders_L24 (a1 : Int32) : (Int32 × zm_S) → Option ((Int32 × zm_S) ⊕ (Int32 × zm_S)) := fun t24 =>
(gm_goesToNext t24.2).bind fun p5 =>
if p5.1 = true then ((gm_orderSpare p5.2).bind fun x6 =>
if x6 < a1 then (some (Sum.inl (t24.1, p5.2)))
else (some (Sum.inl ((t24.1 + 1), p5.2))))
else (some (Sum.inr (t24.1, p5.2)))
def gm_orders (M : zm_S) (a1 : Int32) : Option (Int32 × zm_S) :=
(gm_isWeight a1).bind fun b1 =>
if b1 = true then ((gm_copies M).bind fun M2 =>
(gm_fillsPlans M2).bind fun M3 =>
(some (zm_sF M3 61 0)).bind fun M4 =>
(zs_loop 5000 (gm_orders_L24 a1) (0, M4)).bind fun z => some z)
else (some ((-1), M))
set_option maxHeartbeats 4000000 in
theorem km_orders (D : zs_D) (h0 : zs_AH) (m : Nat) (M : zm_S) (a1 : Int32) : zs_Con D (zm_R h0 m) zm_bd zs_eI yX10_orders cX10_orders 3 (some .int) 6 [.ref m, .int a1] M (gm_orders M a1) := by
  unfold gm_orders
  refine zs_con (own := RX10) (nm := "orders") pl_X10 rfl rfl (Nat.le_of_ble_eq_true rfl) ?_
  refine zs_lv (lv' := [(0, .ref m), (1, .int a1)]) rfl ?_
  refine zs_iload_n (pc := 0) 1 dX10_orders_0 rfl rfl ?_
  refine zs_callSrB (pc := 1) [.int a1] [] (km_isWeight D _ _ M a1) kv_isWeight q1972 dX10_orders_1 rfl rfl (Nat.le_of_ble_eq_true rfl) (Nat.le_of_ble_eq_true rfl) (fun b1 => ?_)
  refine zs_if_t (pc := 4) (tgt := 9) dX10_orders_4 (by decide) ?_ ?_
  · refine zs_aload_n (pc := 9) 0 dX10_orders_9 rfl rfl ?_
    refine zs_callVv (pc := 10) [] [] (km_copies D h0 m M) kv_copies q1873 zc_X10 zm_recv dX10_orders_10 rfl rfl (Nat.le_of_ble_eq_true rfl) (Nat.le_of_ble_eq_true rfl) (fun M2 => ?_)
    refine zs_aload_n (pc := 13) 0 dX10_orders_13 rfl rfl ?_
    refine zs_callVv (pc := 14) [] [] (km_fillsPlans D h0 m M2) kv_fillsPlans q2066 zc_X10 zm_recv dX10_orders_14 rfl rfl (Nat.le_of_ble_eq_true rfl) (Nat.le_of_ble_eq_true rfl) (fun M3 => ?_)
    refine zs_iconst (pc := 17) (v := 0) dX10_orders_17 rfl ?_
    refine zs_istore_n (pc := 18) (lv' := [(0, .ref m), (1, .int a1), (2, .int 0)]) [1, 2, 0] dX10_orders_18 rfl (by decide) rfl ?_
    refine zs_aload_n (pc := 19) 0 dX10_orders_19 rfl rfl ?_
    refine zs_iconst (pc := 20) (v := 0) dX10_orders_20 rfl ?_
    refine zm_puti (pc := 21) 61 (by decide) rfl q1594 rfl rfl rfl dX10_orders_21 ?_
    refine zs_nmM (fun M4 => ?_)
    refine zs_whileX (pc := 24) (fun (t24 : Int32 × zm_S) => t24.2) (fun (t24 : Int32 × zm_S) => [(0, .ref m), (1, .int a1), (2, .int t24.1)]) 5000 (0, M4) (fun X24 hL24 hR24 t24 => ?_)
    unfold gm_orders_L24
    refine zs_aload_n (pc := 24) 0 dX10_orders_24 rfl rfl ?_
    refine zs_callVwB (pc := 25) [] [] (km_goesToNext D h0 m t24.2) kv_goesToNext q2070 zc_X10 zm_recv dX10_orders_25 rfl rfl (Nat.le_of_ble_eq_true rfl) (Nat.le_of_ble_eq_true rfl) (fun p5 => ?_)
    refine zs_if_f (pc := 28) (tgt := 45) dX10_orders_28 (by decide) ?_ ?_
    · refine zs_aload_n (pc := 31) 0 dX10_orders_31 rfl rfl ?_
      refine zs_callVrI (pc := 32) [] [] (km_orderSpare D h0 m p5.2) kv_orderSpare q2082 zc_X10 zm_recv dX10_orders_32 rfl rfl (Nat.le_of_ble_eq_true rfl) (Nat.le_of_ble_eq_true rfl) (fun x6 => ?_)
      refine zs_iload_n (pc := 35) 1 dX10_orders_35 rfl rfl ?_
      refine zs_icmp_lt (pc := 36) (tgt := 24) dX10_orders_36 (by decide) ?_ ?_
      · exact hL24 (t24.1, p5.2)
      · refine zs_iinc (pc := 39) (lv' := [(0, .ref m), (1, .int a1), (2, .int (t24.1 + 1))]) 2 [1, 2, 0] dX10_orders_39 rfl rfl (by decide) rfl ?_
        refine zs_goto (pc := 42) (tgt := 24) dX10_orders_42 (by decide) ?_
        exact hL24 ((t24.1 + 1), p5.2)
    · refine zs_iload_n (pc := 45) 2 dX10_orders_45 rfl rfl ?_
      exact zs_iret (pc := 46) dX10_orders_46 ((hR24 _).trans rfl) rfl rfl
  · refine zs_iconst (pc := 7) (v := (-1)) dX10_orders_7 rfl ?_
    exact zs_iret (pc := 8) dX10_orders_8 rfl rfl rfl
theorem kv_peakOf : zs_mV RX10 yX10_peakOf cX10_peakOf 3 (some .int) 0 := ⟨q2092, qs119, q152, q2093, by decide, by decide +kernel⟩
def gm_peakOf_L8 : (Int32 × zm_S) → Option ((Int32 × zm_S) ⊕ (Int32 × zm_S)) := fun t8 =>
(gm_goesToNext t8.2).bind fun p2 =>
if p2.1 = true then ((gm_orderSpare p2.2).bind fun x3 =>
(if x3 < 0 then (some t8.1)
else (if t8.1 < x3 then (some x3)
else (some t8.1))).bind fun (p4 : Int32) =>
some (Sum.inl (p4, p2.2)))
else (some (Sum.inr (t8.1, p2.2)))
def gm_peakOf (M : zm_S) : Option (Int32 × zm_S) :=
(some (zm_sF M 61 0)).bind fun M1 =>
(zs_loop 5000 gm_peakOf_L8 ((-2), M1)).bind fun z => some z
set_option maxHeartbeats 4000000 in
theorem km_peakOf (D : zs_D) (h0 : zs_AH) (m : Nat) (M : zm_S) : zs_Con D (zm_R h0 m) zm_bd zs_eI yX10_peakOf cX10_peakOf 3 (some .int) 3 [.ref m] M (gm_peakOf M) := by
  unfold gm_peakOf
  refine zs_con (own := RX10) (nm := "peakOf") pl_X10 rfl rfl (Nat.le_of_ble_eq_true rfl) ?_
  refine zs_lv (lv' := [(0, .ref m)]) rfl ?_
  refine zs_bipush (pc := 0) (v := (-2)) dX10_peakOf_0 (by decide) ?_
  refine zs_istore_n (pc := 2) (lv' := [(0, .ref m), (1, .int (-2))]) [1, 0] dX10_peakOf_2 rfl (by decide) rfl ?_
  refine zs_aload_n (pc := 3) 0 dX10_peakOf_3 rfl rfl ?_
  refine zs_iconst (pc := 4) (v := 0) dX10_peakOf_4 rfl ?_
  refine zm_puti (pc := 5) 61 (by decide) rfl q1594 rfl rfl rfl dX10_peakOf_5 ?_
  refine zs_nmM (fun M1 => ?_)
  refine zs_whileX (pc := 8) (fun (t8 : Int32 × zm_S) => t8.2) (fun (t8 : Int32 × zm_S) => [(0, .ref m), (1, .int t8.1)]) 5000 ((-2), M1) (fun X8 hL8 hR8 t8 => ?_)
  unfold gm_peakOf_L8
  refine zs_aload_n (pc := 8) 0 dX10_peakOf_8 rfl rfl ?_
  refine zs_callVwB (pc := 9) [] [] (km_goesToNext D h0 m t8.2) kv_goesToNext q2070 zc_X10 zm_recv dX10_peakOf_9 rfl rfl (Nat.le_of_ble_eq_true rfl) (Nat.le_of_ble_eq_true rfl) (fun p2 => ?_)
  refine zs_if_f (pc := 12) (tgt := 34) dX10_peakOf_12 (by decide) ?_ ?_
  · refine zs_aload_n (pc := 15) 0 dX10_peakOf_15 rfl rfl ?_
    refine zs_callVrI (pc := 16) [] [] (km_orderSpare D h0 m p2.2) kv_orderSpare q2082 zc_X10 zm_recv dX10_peakOf_16 rfl rfl (Nat.le_of_ble_eq_true rfl) (Nat.le_of_ble_eq_true rfl) (fun x3 => ?_)
    refine zs_istore_n (pc := 19) (lv' := [(0, .ref m), (1, .int t8.1), (2, .int x3)]) [1, 2, 0] dX10_peakOf_19 rfl (by decide) rfl ?_
    refine zs_iload_n (pc := 20) 2 dX10_peakOf_20 rfl rfl ?_
    refine zs_join (pc := 21) (fun (p4 : Int32) => p2.2) 31 (fun (p4 : Int32) => [(0, .ref m), (1, .int p4)]) (fun (p4 : Int32) => []) (fun p4 => ?_) (fun h31 => ?_)
    · refine zs_goto (pc := 31) (tgt := 8) dX10_peakOf_31 (by decide) ?_
      exact hL8 (p4, p2.2)
    · refine zs_if_lt (pc := 21) (tgt := 31) dX10_peakOf_21 (by decide) ?_ ?_
      · refine zs_sub (lv' := [(0, .ref m), (1, .int t8.1)]) [0, 1] rfl ?_
        exact h31 t8.1
      · refine zs_iload_n (pc := 24) 2 dX10_peakOf_24 rfl rfl ?_
        refine zs_iload_n (pc := 25) 1 dX10_peakOf_25 rfl rfl ?_
        refine zs_icmp_le (pc := 26) (tgt := 31) dX10_peakOf_26 (by decide) ?_ ?_
        · refine zs_iload_n (pc := 29) 2 dX10_peakOf_29 rfl rfl ?_
          refine zs_istore_n (pc := 30) (lv' := [(0, .ref m), (1, .int x3), (2, .int x3)]) [1, 0, 2] dX10_peakOf_30 rfl (by decide) rfl ?_
          refine zs_sub (lv' := [(0, .ref m), (1, .int x3)]) [0, 1] rfl ?_
          exact h31 x3
        · refine zs_sub (lv' := [(0, .ref m), (1, .int t8.1)]) [0, 1] rfl ?_
          exact h31 t8.1
  · refine zs_iload_n (pc := 34) 1 dX10_peakOf_34 rfl rfl ?_
    exact zs_iret (pc := 35) dX10_peakOf_35 ((hR8 _).trans rfl) rfl rfl
theorem kv_peak : zs_mV RX10 yX10_peak cX10_peak 1 (some .int) 0 := ⟨q2087, q2088, q152, q2089, by decide, by decide +kernel⟩
def gm_peak (M : zm_S) : Option (Int32 × zm_S) :=
(gm_copies M).bind fun M1 =>
(gm_fillsPlans M1).bind fun M2 =>
(gm_peakOf M2).bind fun p3 =>
some (p3.1, p3.2)
set_option maxHeartbeats 4000000 in
theorem km_peak (D : zs_D) (h0 : zs_AH) (m : Nat) (M : zm_S) : zs_Con D (zm_R h0 m) zm_bd zs_eI yX10_peak cX10_peak 1 (some .int) 6 [.ref m] M (gm_peak M) := by
  unfold gm_peak
  refine zs_con (own := RX10) (nm := "peak") pl_X10 rfl rfl (Nat.le_of_ble_eq_true rfl) ?_
  refine zs_lv (lv' := [(0, .ref m)]) rfl ?_
  refine zs_aload_n (pc := 0) 0 dX10_peak_0 rfl rfl ?_
  refine zs_callVv (pc := 1) [] [] (km_copies D h0 m M) kv_copies q1873 zc_X10 zm_recv dX10_peak_1 rfl rfl (Nat.le_of_ble_eq_true rfl) (Nat.le_of_ble_eq_true rfl) (fun M1 => ?_)
  refine zs_aload_n (pc := 4) 0 dX10_peak_4 rfl rfl ?_
  refine zs_callVv (pc := 5) [] [] (km_fillsPlans D h0 m M1) kv_fillsPlans q2066 zc_X10 zm_recv dX10_peak_5 rfl rfl (Nat.le_of_ble_eq_true rfl) (Nat.le_of_ble_eq_true rfl) (fun M2 => ?_)
  refine zs_aload_n (pc := 8) 0 dX10_peak_8 rfl rfl ?_
  refine zs_callVwI (pc := 9) [] [] (km_peakOf D h0 m M2) kv_peakOf q2090 zc_X10 zm_recv dX10_peak_9 rfl rfl (Nat.le_of_ble_eq_true rfl) (Nat.le_of_ble_eq_true rfl) (fun p3 => ?_)
  exact zs_iret (pc := 12) dX10_peak_12 rfl rfl rfl
theorem kv_fewestOf : zs_mV RX10 yX10_fewestOf cX10_fewestOf 4 (some .int) 1 := ⟨q2100, qs120, q152, q2101, by decide, by decide +kernel⟩
def gm_fewestOf_L45 (x5 : Int32) : (Int32 × zm_S) → Option ((Int32 × zm_S) ⊕ (zm_S)) := fun t45 =>
if t45.1 < x5 then ((zs_ald 6 (t45.2.2.1 60) t45.1).bind fun x6 =>
(zs_ast 6 t45.1 (zm_sA t45.2 62 t45.1 x6)).bind fun M7 =>
some (Sum.inl ((t45.1 + 1), M7)))
else (some (Sum.inr t45.2))
def gm_fewestOf_L8 (a1 : Int32) : (Int32 × zm_S) → Option ((Int32 × zm_S) ⊕ (Int32 × zm_S)) := fun t8 =>
(gm_goesToNext t8.2).bind fun p2 =>
if p2.1 = true then (zs_let (fun (p3 : Unit) => (gm_orderSpare p2.2).bind fun x4 =>
if x4 < a1 then (some (Sum.inl (t8.1, p2.2)))
else ((some (p2.2.1 61)).bind fun x5 =>
(zs_loop 5000 (gm_fewestOf_L45 x5) (0, p2.2)).bind fun (r8 : zm_S) =>
some (Sum.inl (x5, r8)))) fun J27 =>
if t8.1 < 0 then (J27 ())
else (if (p2.2.1 61) < t8.1 then (J27 ())
else (some (Sum.inl (t8.1, p2.2)))))
else (some (Sum.inr (t8.1, p2.2)))
def gm_fewestOf (M : zm_S) (a1 : Int32) : Option (Int32 × zm_S) :=
(some (zm_sF M 61 0)).bind fun M1 =>
(zs_loop 5000 (gm_fewestOf_L8 a1) ((-2), M1)).bind fun z => some z
set_option maxHeartbeats 4000000 in
theorem km_fewestOf (D : zs_D) (h0 : zs_AH) (m : Nat) (M : zm_S) (a1 : Int32) : zs_Con D (zm_R h0 m) zm_bd zs_eI yX10_fewestOf cX10_fewestOf 4 (some .int) 3 [.ref m, .int a1] M (gm_fewestOf M a1) := by
  unfold gm_fewestOf
  refine zs_con (own := RX10) (nm := "fewestOf") pl_X10 rfl rfl (Nat.le_of_ble_eq_true rfl) ?_
  refine zs_lv (lv' := [(0, .ref m), (1, .int a1)]) rfl ?_
  refine zs_bipush (pc := 0) (v := (-2)) dX10_fewestOf_0 (by decide) ?_
  refine zs_istore_n (pc := 2) (lv' := [(0, .ref m), (1, .int a1), (2, .int (-2))]) [1, 2, 0] dX10_fewestOf_2 rfl (by decide) rfl ?_
  refine zs_aload_n (pc := 3) 0 dX10_fewestOf_3 rfl rfl ?_
  refine zs_iconst (pc := 4) (v := 0) dX10_fewestOf_4 rfl ?_
  refine zm_puti (pc := 5) 61 (by decide) rfl q1594 rfl rfl rfl dX10_fewestOf_5 ?_
  refine zs_nmM (fun M1 => ?_)
  refine zs_whileX (pc := 8) (fun (t8 : Int32 × zm_S) => t8.2) (fun (t8 : Int32 × zm_S) => [(0, .ref m), (1, .int a1), (2, .int t8.1)]) 5000 ((-2), M1) (fun X8 hL8 hR8 t8 => ?_)
  unfold gm_fewestOf_L8
  refine zs_aload_n (pc := 8) 0 dX10_fewestOf_8 rfl rfl ?_
  refine zs_callVwB (pc := 9) [] [] (km_goesToNext D h0 m t8.2) kv_goesToNext q2070 zc_X10 zm_recv dX10_fewestOf_9 rfl rfl (Nat.le_of_ble_eq_true rfl) (Nat.le_of_ble_eq_true rfl) (fun p2 => ?_)
  refine zs_if_f (pc := 12) (tgt := 71) dX10_fewestOf_12 (by decide) ?_ ?_
  · refine zs_iload_n (pc := 15) 2 dX10_fewestOf_15 rfl rfl ?_
    refine zs_letJ (pc := 16) (fun (p3 : Unit) => p2.2) 27 (fun (p3 : Unit) => [(0, .ref m), (1, .int a1), (2, .int t8.1)]) (fun (p3 : Unit) => []) (fun p3 => ?_) (fun J27 h27 => ?_)
    · refine zs_aload_n (pc := 27) 0 dX10_fewestOf_27 rfl rfl ?_
      refine zs_callVrI (pc := 28) [] [] (km_orderSpare D h0 m p2.2) kv_orderSpare q2082 zc_X10 zm_recv dX10_fewestOf_28 rfl rfl (Nat.le_of_ble_eq_true rfl) (Nat.le_of_ble_eq_true rfl) (fun x4 => ?_)
      refine zs_iload_n (pc := 31) 1 dX10_fewestOf_31 rfl rfl ?_
      refine zs_icmp_ge (pc := 32) (tgt := 38) dX10_fewestOf_32 (by decide) ?_ ?_
      · refine zs_goto (pc := 35) (tgt := 8) dX10_fewestOf_35 (by decide) ?_
        exact hL8 (t8.1, p2.2)
      · refine zs_aload_n (pc := 38) 0 dX10_fewestOf_38 rfl rfl ?_
        refine zm_geti (pc := 39) 61 (by decide) rfl q1594 dX10_fewestOf_39 ?_
        refine zs_nm (fun x5 => ?_)
        refine zs_istore_n (pc := 42) (lv' := [(0, .ref m), (1, .int a1), (2, .int x5)]) [1, 2, 0] dX10_fewestOf_42 rfl (by decide) rfl ?_
        refine zs_iconst (pc := 43) (v := 0) dX10_fewestOf_43 rfl ?_
        refine zs_istore_n (pc := 44) (lv' := [(0, .ref m), (1, .int a1), (2, .int x5), (3, .int 0)]) [1, 2, 3, 0] dX10_fewestOf_44 rfl (by decide) rfl ?_
        refine zs_whileJ (pc := 45) (fun (t45 : Int32 × zm_S) => t45.2) (fun (t45 : Int32 × zm_S) => [(0, .ref m), (1, .int a1), (2, .int x5), (3, .int t45.1)]) 5000 (0, p2.2) (fun (r8 : zm_S) => r8) 68 (fun (r8 : zm_S) => [(0, .ref m), (1, .int a1), (2, .int x5)]) [] (fun r8 => ?_) (fun X45 hL45 hE45 t45 => ?_)
        · refine zs_goto (pc := 68) (tgt := 8) dX10_fewestOf_68 (by decide) ?_
          exact hL8 (x5, r8)
        · unfold gm_fewestOf_L45
          refine zs_iload_n (pc := 45) 3 dX10_fewestOf_45 rfl rfl ?_
          refine zs_iload_n (pc := 46) 2 dX10_fewestOf_46 rfl rfl ?_
          refine zs_icmp_ge (pc := 47) (tgt := 68) dX10_fewestOf_47 (by decide) ?_ ?_
          · refine zs_aload_n (pc := 50) 0 dX10_fewestOf_50 rfl rfl ?_
            refine zm_geta (pc := 51) 62 40 (by decide) rfl q1595 dX10_fewestOf_51 ?_
            refine zs_iload_n (pc := 54) 3 dX10_fewestOf_54 rfl rfl ?_
            refine zs_aload_n (pc := 55) 0 dX10_fewestOf_55 rfl rfl ?_
            refine zm_geta (pc := 56) 60 39 (by decide) rfl q1593 dX10_fewestOf_56 ?_
            refine zs_iload_n (pc := 59) 3 dX10_fewestOf_59 rfl rfl ?_
            refine zm_iald (pc := 60) 60 39 zm_p60 dX10_fewestOf_60 (fun x6 => ?_)
            refine zm_iast (pc := 61) 62 40 zm_p62 dX10_fewestOf_61 (fun M7 => ?_)
            refine zs_iinc (pc := 62) (lv' := [(0, .ref m), (1, .int a1), (2, .int x5), (3, .int (t45.1 + 1))]) 3 [1, 2, 3, 0] dX10_fewestOf_62 rfl rfl (by decide) rfl ?_
            refine zs_goto (pc := 65) (tgt := 45) dX10_fewestOf_65 (by decide) ?_
            exact hL45 ((t45.1 + 1), M7)
          · refine zs_sub (lv' := [(0, .ref m), (1, .int a1), (2, .int x5)]) [0, 1, 2] rfl ?_
            exact hE45 t45.2
    · refine zs_if_lt (pc := 16) (tgt := 27) dX10_fewestOf_16 (by decide) ?_ ?_
      · exact h27 ()
      · refine zs_aload_n (pc := 19) 0 dX10_fewestOf_19 rfl rfl ?_
        refine zm_geti (pc := 20) 61 (by decide) rfl q1594 dX10_fewestOf_20 ?_
        refine zs_iload_n (pc := 23) 2 dX10_fewestOf_23 rfl rfl ?_
        refine zs_icmp_ge (pc := 24) (tgt := 8) dX10_fewestOf_24 (by decide) ?_ ?_
        · exact h27 ()
        · exact hL8 (t8.1, p2.2)
  · refine zs_iload_n (pc := 71) 2 dX10_fewestOf_71 rfl rfl ?_
    exact zs_iret (pc := 72) dX10_fewestOf_72 ((hR8 _).trans rfl) rfl rfl
theorem kv_fewest : zs_mV RX10 yX10_fewest cX10_fewest 4 (some .int) 2 := ⟨q2095, q2096, q152, q2097, by decide, by decide +kernel⟩
def gm_fewest (M : zm_S) (a1 : Int32) (a2 : Int32) : Option (Int32 × zm_S) :=
(gm_isWeight a1).bind fun b1 =>
if b1 = true then (if a2 < (-1) then (some ((-1), M))
else ((gm_copies M).bind fun M2 =>
(gm_fillsPlans M2).bind fun M3 =>
(gm_fewestOf M3 a1).bind fun p4 =>
if p4.1 < 0 then (some (p4.1, p4.2))
else (if a2 = (-1) then (some (p4.1, p4.2))
else (if a2 < p4.1 then ((zs_ald 6 (p4.2.2.1 62) a2).bind fun x5 =>
some (x5, p4.2))
else (some ((-1), p4.2))))))
else (some ((-1), M))
set_option maxHeartbeats 4000000 in
theorem km_fewest (D : zs_D) (h0 : zs_AH) (m : Nat) (M : zm_S) (a1 : Int32) (a2 : Int32) : zs_Con D (zm_R h0 m) zm_bd zs_eI yX10_fewest cX10_fewest 4 (some .int) 6 [.ref m, .int a1, .int a2] M (gm_fewest M a1 a2) := by
  unfold gm_fewest
  refine zs_con (own := RX10) (nm := "fewest") pl_X10 rfl rfl (Nat.le_of_ble_eq_true rfl) ?_
  refine zs_lv (lv' := [(0, .ref m), (1, .int a1), (2, .int a2)]) rfl ?_
  refine zs_iload_n (pc := 0) 1 dX10_fewest_0 rfl rfl ?_
  refine zs_callSrB (pc := 1) [.int a1] [] (km_isWeight D _ _ M a1) kv_isWeight q1972 dX10_fewest_1 rfl rfl (Nat.le_of_ble_eq_true rfl) (Nat.le_of_ble_eq_true rfl) (fun b1 => ?_)
  refine zs_if_f (pc := 4) (tgt := 12) dX10_fewest_4 (by decide) ?_ ?_
  · refine zs_iload_n (pc := 7) 2 dX10_fewest_7 rfl rfl ?_
    refine zs_iconst (pc := 8) (v := (-1)) dX10_fewest_8 rfl ?_
    refine zs_icmp_ge (pc := 9) (tgt := 14) dX10_fewest_9 (by decide) ?_ ?_
    · refine zs_iconst (pc := 12) (v := (-1)) dX10_fewest_12 rfl ?_
      exact zs_iret (pc := 13) dX10_fewest_13 rfl rfl rfl
    · refine zs_aload_n (pc := 14) 0 dX10_fewest_14 rfl rfl ?_
      refine zs_callVv (pc := 15) [] [] (km_copies D h0 m M) kv_copies q1873 zc_X10 zm_recv dX10_fewest_15 rfl rfl (Nat.le_of_ble_eq_true rfl) (Nat.le_of_ble_eq_true rfl) (fun M2 => ?_)
      refine zs_aload_n (pc := 18) 0 dX10_fewest_18 rfl rfl ?_
      refine zs_callVv (pc := 19) [] [] (km_fillsPlans D h0 m M2) kv_fillsPlans q2066 zc_X10 zm_recv dX10_fewest_19 rfl rfl (Nat.le_of_ble_eq_true rfl) (Nat.le_of_ble_eq_true rfl) (fun M3 => ?_)
      refine zs_aload_n (pc := 22) 0 dX10_fewest_22 rfl rfl ?_
      refine zs_iload_n (pc := 23) 1 dX10_fewest_23 rfl rfl ?_
      refine zs_callVwI (pc := 24) [.int a1] [] (km_fewestOf D h0 m M3 a1) kv_fewestOf q2098 zc_X10 zm_recv dX10_fewest_24 rfl rfl (Nat.le_of_ble_eq_true rfl) (Nat.le_of_ble_eq_true rfl) (fun p4 => ?_)
      refine zs_istore_n (pc := 27) (lv' := [(0, .ref m), (1, .int a1), (2, .int a2), (3, .int p4.1)]) [1, 2, 3, 0] dX10_fewest_27 rfl (by decide) rfl ?_
      refine zs_iload_n (pc := 28) 3 dX10_fewest_28 rfl rfl ?_
      refine zs_if_lt (pc := 29) (tgt := 37) dX10_fewest_29 (by decide) ?_ ?_
      · refine zs_iload_n (pc := 37) 3 dX10_fewest_37 rfl rfl ?_
        exact zs_iret (pc := 38) dX10_fewest_38 rfl rfl rfl
      · refine zs_iload_n (pc := 32) 2 dX10_fewest_32 rfl rfl ?_
        refine zs_iconst (pc := 33) (v := (-1)) dX10_fewest_33 rfl ?_
        refine zs_icmp_ne (pc := 34) (tgt := 39) dX10_fewest_34 (by decide) ?_ ?_
        · refine zs_iload_n (pc := 37) 3 dX10_fewest_37 rfl rfl ?_
          exact zs_iret (pc := 38) dX10_fewest_38 rfl rfl rfl
        · refine zs_iload_n (pc := 39) 2 dX10_fewest_39 rfl rfl ?_
          refine zs_iload_n (pc := 40) 3 dX10_fewest_40 rfl rfl ?_
          refine zs_icmp_ge (pc := 41) (tgt := 53) dX10_fewest_41 (by decide) ?_ ?_
          · refine zs_aload_n (pc := 44) 0 dX10_fewest_44 rfl rfl ?_
            refine zm_geta (pc := 45) 62 40 (by decide) rfl q1595 dX10_fewest_45 ?_
            refine zs_iload_n (pc := 48) 2 dX10_fewest_48 rfl rfl ?_
            refine zm_iald (pc := 49) 62 40 zm_p62 dX10_fewest_49 (fun x5 => ?_)
            refine zs_goto (pc := 50) (tgt := 54) dX10_fewest_50 (by decide) ?_
            exact zs_iret (pc := 54) dX10_fewest_54 rfl rfl rfl
          · refine zs_iconst (pc := 53) (v := (-1)) dX10_fewest_53 rfl ?_
            exact zs_iret (pc := 54) dX10_fewest_54 rfl rfl rfl
  · refine zs_iconst (pc := 12) (v := (-1)) dX10_fewest_12 rfl ?_
    exact zs_iret (pc := 13) dX10_fewest_13 rfl rfl rfl
theorem kv_needed : zs_mV RX10 yX10_needed cX10_needed 5 (some .int) 1 := ⟨q2103, q2104, q152, q2105, by decide, by decide +kernel⟩
def gm_needed_L47 (p5 : Bool × zm_S) : (Int32 × Int32) → Option ((Int32 × Int32) ⊕ (Int32)) := fun t47 =>
if t47.2 < (p5.2.1 61) then ((zs_ald 6 (p5.2.2.1 60) t47.2).bind fun x7 =>
(some (t47.1 ||| (zs_shl 1 x7))).bind fun x8 =>
some (Sum.inl (x8, (t47.2 + 1))))
else (some (Sum.inr t47.1))
def gm_needed_L24 (a1 : Int32) : (Int32 × zm_S) → Option ((Int32 × zm_S) ⊕ (Int32 × zm_S)) := fun t24 =>
(gm_goesToNext t24.2).bind fun p5 =>
if p5.1 = true then ((gm_orderSpare p5.2).bind fun x6 =>
if x6 < a1 then (some (Sum.inl (t24.1, p5.2)))
else ((zs_loop 5000 (gm_needed_L47 p5) (0, 0)).bind fun (r9 : Int32) =>
(if t24.1 < 0 then (some r9)
else (some (t24.1 &&& r9))).bind fun (p10 : Int32) =>
some (Sum.inl (p10, p5.2))))
else (some (Sum.inr (t24.1, p5.2)))
def gm_needed (M : zm_S) (a1 : Int32) : Option (Int32 × zm_S) :=
(gm_isWeight a1).bind fun b1 =>
if b1 = true then ((gm_copies M).bind fun M2 =>
(gm_fillsPlans M2).bind fun M3 =>
(some (zm_sF M3 61 0)).bind fun M4 =>
(zs_loop 5000 (gm_needed_L24 a1) ((-1), M4)).bind fun (r11 : Int32 × zm_S) =>
if r11.1 < 0 then (some ((-2), r11.2))
else (some (r11.1, r11.2)))
else (some ((-1), M))
set_option maxHeartbeats 4000000 in
theorem km_needed (D : zs_D) (h0 : zs_AH) (m : Nat) (M : zm_S) (a1 : Int32) : zs_Con D (zm_R h0 m) zm_bd zs_eI yX10_needed cX10_needed 5 (some .int) 6 [.ref m, .int a1] M (gm_needed M a1) := by
  unfold gm_needed
  refine zs_con (own := RX10) (nm := "needed") pl_X10 rfl rfl (Nat.le_of_ble_eq_true rfl) ?_
  refine zs_lv (lv' := [(0, .ref m), (1, .int a1)]) rfl ?_
  refine zs_iload_n (pc := 0) 1 dX10_needed_0 rfl rfl ?_
  refine zs_callSrB (pc := 1) [.int a1] [] (km_isWeight D _ _ M a1) kv_isWeight q1972 dX10_needed_1 rfl rfl (Nat.le_of_ble_eq_true rfl) (Nat.le_of_ble_eq_true rfl) (fun b1 => ?_)
  refine zs_if_t (pc := 4) (tgt := 9) dX10_needed_4 (by decide) ?_ ?_
  · refine zs_aload_n (pc := 9) 0 dX10_needed_9 rfl rfl ?_
    refine zs_callVv (pc := 10) [] [] (km_copies D h0 m M) kv_copies q1873 zc_X10 zm_recv dX10_needed_10 rfl rfl (Nat.le_of_ble_eq_true rfl) (Nat.le_of_ble_eq_true rfl) (fun M2 => ?_)
    refine zs_aload_n (pc := 13) 0 dX10_needed_13 rfl rfl ?_
    refine zs_callVv (pc := 14) [] [] (km_fillsPlans D h0 m M2) kv_fillsPlans q2066 zc_X10 zm_recv dX10_needed_14 rfl rfl (Nat.le_of_ble_eq_true rfl) (Nat.le_of_ble_eq_true rfl) (fun M3 => ?_)
    refine zs_iconst (pc := 17) (v := (-1)) dX10_needed_17 rfl ?_
    refine zs_istore_n (pc := 18) (lv' := [(0, .ref m), (1, .int a1), (2, .int (-1))]) [1, 2, 0] dX10_needed_18 rfl (by decide) rfl ?_
    refine zs_aload_n (pc := 19) 0 dX10_needed_19 rfl rfl ?_
    refine zs_iconst (pc := 20) (v := 0) dX10_needed_20 rfl ?_
    refine zm_puti (pc := 21) 61 (by decide) rfl q1594 rfl rfl rfl dX10_needed_21 ?_
    refine zs_nmM (fun M4 => ?_)
    refine zs_whileJ (pc := 24) (fun (t24 : Int32 × zm_S) => t24.2) (fun (t24 : Int32 × zm_S) => [(0, .ref m), (1, .int a1), (2, .int t24.1)]) 5000 ((-1), M4) (fun (r11 : Int32 × zm_S) => r11.2) 89 (fun (r11 : Int32 × zm_S) => [(2, .int r11.1)]) [] (fun r11 => ?_) (fun X24 hL24 hE24 t24 => ?_)
    · refine zs_iload_n (pc := 89) 0 dX10_needed_89 rfl rfl ?_
      refine zs_if_ge (pc := 90) (tgt := 98) dX10_needed_90 (by decide) ?_ ?_
      · refine zs_bipush (pc := 93) (v := (-2)) dX10_needed_93 (by decide) ?_
        refine zs_goto (pc := 95) (tgt := 99) dX10_needed_95 (by decide) ?_
        exact zs_iret (pc := 99) dX10_needed_99 rfl rfl rfl
      · refine zs_iload_n (pc := 98) 0 dX10_needed_98 rfl rfl ?_
        exact zs_iret (pc := 99) dX10_needed_99 rfl rfl rfl
    · unfold gm_needed_L24
      refine zs_aload_n (pc := 24) 0 dX10_needed_24 rfl rfl ?_
      refine zs_callVwB (pc := 25) [] [] (km_goesToNext D h0 m t24.2) kv_goesToNext q2070 zc_X10 zm_recv dX10_needed_25 rfl rfl (Nat.le_of_ble_eq_true rfl) (Nat.le_of_ble_eq_true rfl) (fun p5 => ?_)
      refine zs_if_f (pc := 28) (tgt := 89) dX10_needed_28 (by decide) ?_ ?_
      · refine zs_aload_n (pc := 31) 0 dX10_needed_31 rfl rfl ?_
        refine zs_callVrI (pc := 32) [] [] (km_orderSpare D h0 m p5.2) kv_orderSpare q2082 zc_X10 zm_recv dX10_needed_32 rfl rfl (Nat.le_of_ble_eq_true rfl) (Nat.le_of_ble_eq_true rfl) (fun x6 => ?_)
        refine zs_iload_n (pc := 35) 1 dX10_needed_35 rfl rfl ?_
        refine zs_icmp_ge (pc := 36) (tgt := 42) dX10_needed_36 (by decide) ?_ ?_
        · refine zs_goto (pc := 39) (tgt := 24) dX10_needed_39 (by decide) ?_
          exact hL24 (t24.1, p5.2)
        · refine zs_iconst (pc := 42) (v := 0) dX10_needed_42 rfl ?_
          refine zs_istore_n (pc := 43) (lv' := [(0, .ref m), (1, .int a1), (2, .int t24.1), (3, .int 0)]) [1, 2, 3, 0] dX10_needed_43 rfl (by decide) rfl ?_
          refine zs_iconst (pc := 44) (v := 0) dX10_needed_44 rfl ?_
          refine zs_istore (pc := 45) (lv' := [(0, .ref m), (1, .int a1), (2, .int t24.1), (3, .int 0), (4, .int 0)]) [1, 2, 3, 4, 0] dX10_needed_45 (by decide) rfl ?_
          refine zs_whileJ (pc := 47) (fun (t47 : Int32 × Int32) => p5.2) (fun (t47 : Int32 × Int32) => [(0, .ref m), (1, .int a1), (2, .int t24.1), (3, .int t47.1), (4, .int t47.2)]) 5000 (0, 0) (fun (r9 : Int32) => p5.2) 74 (fun (r9 : Int32) => [(0, .ref m), (1, .int a1), (2, .int t24.1), (3, .int r9)]) [] (fun r9 => ?_) (fun X47 hL47 hE47 t47 => ?_)
          · refine zs_iload_n (pc := 74) 2 dX10_needed_74 rfl rfl ?_
            refine zs_join (pc := 75) (fun (p10 : Int32) => p5.2) 85 (fun (p10 : Int32) => [(0, .ref m), (1, .int a1)]) (fun (p10 : Int32) => [.int p10]) (fun p10 => ?_) (fun h85 => ?_)
            · refine zs_istore_n (pc := 85) (lv' := [(0, .ref m), (1, .int a1), (2, .int p10)]) [1, 2, 0] dX10_needed_85 rfl (by decide) rfl ?_
              refine zs_goto (pc := 86) (tgt := 24) dX10_needed_86 (by decide) ?_
              exact hL24 (p10, p5.2)
            · refine zs_if_ge (pc := 75) (tgt := 82) dX10_needed_75 (by decide) ?_ ?_
              · refine zs_iload_n (pc := 78) 3 dX10_needed_78 rfl rfl ?_
                refine zs_goto (pc := 79) (tgt := 85) dX10_needed_79 (by decide) ?_
                refine zs_sub (lv' := [(0, .ref m), (1, .int a1)]) [0, 1] rfl ?_
                exact h85 r9
              · refine zs_iload_n (pc := 82) 2 dX10_needed_82 rfl rfl ?_
                refine zs_iload_n (pc := 83) 3 dX10_needed_83 rfl rfl ?_
                refine zs_iand (pc := 84) dX10_needed_84 ?_
                refine zs_sub (lv' := [(0, .ref m), (1, .int a1)]) [0, 1] rfl ?_
                exact h85 (t24.1 &&& r9)
          · unfold gm_needed_L47
            refine zs_iload (pc := 47) 4 dX10_needed_47 rfl ?_
            refine zs_aload_n (pc := 49) 0 dX10_needed_49 rfl rfl ?_
            refine zm_geti (pc := 50) 61 (by decide) rfl q1594 dX10_needed_50 ?_
            refine zs_icmp_ge (pc := 53) (tgt := 74) dX10_needed_53 (by decide) ?_ ?_
            · refine zs_iload_n (pc := 56) 3 dX10_needed_56 rfl rfl ?_
              refine zs_iconst (pc := 57) (v := 1) dX10_needed_57 rfl ?_
              refine zs_aload_n (pc := 58) 0 dX10_needed_58 rfl rfl ?_
              refine zm_geta (pc := 59) 60 39 (by decide) rfl q1593 dX10_needed_59 ?_
              refine zs_iload (pc := 62) 4 dX10_needed_62 rfl ?_
              refine zm_iald (pc := 64) 60 39 zm_p60 dX10_needed_64 (fun x7 => ?_)
              refine zs_ishl (pc := 65) dX10_needed_65 ?_
              refine zs_ior (pc := 66) dX10_needed_66 ?_
              refine zs_nm (fun x8 => ?_)
              refine zs_istore_n (pc := 67) (lv' := [(0, .ref m), (1, .int a1), (2, .int t24.1), (3, .int x8), (4, .int t47.2)]) [1, 2, 3, 0, 4] dX10_needed_67 rfl (by decide) rfl ?_
              refine zs_iinc (pc := 68) (lv' := [(0, .ref m), (1, .int a1), (2, .int t24.1), (3, .int x8), (4, .int (t47.2 + 1))]) 4 [1, 2, 3, 4, 0] dX10_needed_68 rfl rfl (by decide) rfl ?_
              refine zs_goto (pc := 71) (tgt := 47) dX10_needed_71 (by decide) ?_
              exact hL47 (x8, (t47.2 + 1))
            · refine zs_sub (lv' := [(0, .ref m), (1, .int a1), (2, .int t24.1), (3, .int t47.1)]) [0, 1, 2, 3] rfl ?_
              exact hE47 t47.1
      · refine zs_sub (lv' := [(2, .int t24.1)]) [2] rfl ?_
        exact hE24 (t24.1, p5.2)
  · refine zs_iconst (pc := 7) (v := (-1)) dX10_needed_7 rfl ?_
    exact zs_iret (pc := 8) dX10_needed_8 rfl rfl rfl
