/-! THE MODEL's methods, walked: what each computes (gm_), that its code computes it (km_). Printed by wip/D-73134w/gen/model.py -/
set_option maxRecDepth 100000
theorem kv_soon : zs_mV RX10 yX10_soon cX10_soon 3 (some .int) 1 := ⟨q2107, q2108, q152, q2109, by decide, by decide +kernel⟩
def gm_soon_L15 (a1 : Int32) : (Int32 × zm_S) → Option ((Int32 × zm_S) ⊕ (Int32 × zm_S)) := fun t15 =>
if 60 < t15.1 then (some (Sum.inr ((-2), t15.2)))
else ((gm_fillsPlans t15.2).bind fun M3 =>
(gm_peakOf M3).bind fun p4 =>
if p4.1 < a1 then ((gm_yearGoes p4.2).bind fun M5 =>
some (Sum.inl ((t15.1 + 1), M5)))
else (some (Sum.inr (t15.1, p4.2))))
def gm_soon (M : zm_S) (a1 : Int32) : Option (Int32 × zm_S) :=
(gm_isWeight a1).bind fun b1 =>
if b1 = true then ((gm_copiesStill M).bind fun M2 =>
(zs_loop 5000 (gm_soon_L15 a1) (0, M2)).bind fun z => some z)
else (some ((-1), M))
set_option maxHeartbeats 4000000 in
theorem km_soon (D : zs_D) (h0 : zs_AH) (m : Nat) (M : zm_S) (a1 : Int32) : zs_Con D (zm_R h0 m) zm_bd zs_eI yX10_soon cX10_soon 3 (some .int) 6 [.ref m, .int a1] M (gm_soon M a1) := by
  unfold gm_soon
  refine zs_con (own := RX10) (nm := "soon") pl_X10 rfl rfl (Nat.le_of_ble_eq_true rfl) ?_
  refine zs_lv (lv' := [(0, .ref m), (1, .int a1)]) rfl ?_
  refine zs_iload_n (pc := 0) 1 dX10_soon_0 rfl rfl ?_
  refine zs_callSrB (pc := 1) [.int a1] [] (km_isWeight D _ _ M a1) kv_isWeight q1972 dX10_soon_1 rfl rfl (Nat.le_of_ble_eq_true rfl) (Nat.le_of_ble_eq_true rfl) (fun b1 => ?_)
  refine zs_if_t (pc := 4) (tgt := 9) dX10_soon_4 (by decide) ?_ ?_
  · refine zs_aload_n (pc := 9) 0 dX10_soon_9 rfl rfl ?_
    refine zs_callVv (pc := 10) [] [] (km_copiesStill D h0 m M) kv_copiesStill q2042 zc_X10 zm_recv dX10_soon_10 rfl rfl (Nat.le_of_ble_eq_true rfl) (Nat.le_of_ble_eq_true rfl) (fun M2 => ?_)
    refine zs_iconst (pc := 13) (v := 0) dX10_soon_13 rfl ?_
    refine zs_istore_n (pc := 14) (lv' := [(0, .ref m), (1, .int a1), (2, .int 0)]) [1, 2, 0] dX10_soon_14 rfl (by decide) rfl ?_
    refine zs_whileX (pc := 15) (fun (t15 : Int32 × zm_S) => t15.2) (fun (t15 : Int32 × zm_S) => [(0, .ref m), (1, .int a1), (2, .int t15.1)]) 5000 (0, M2) (fun X15 hL15 hR15 t15 => ?_)
    unfold gm_soon_L15
    refine zs_iload_n (pc := 15) 2 dX10_soon_15 rfl rfl ?_
    refine zs_bipush (pc := 16) (v := 60) dX10_soon_16 (by decide) ?_
    refine zs_icmp_gt (pc := 18) (tgt := 45) dX10_soon_18 (by decide) ?_ ?_
    · refine zs_bipush (pc := 45) (v := (-2)) dX10_soon_45 (by decide) ?_
      exact zs_iret (pc := 47) dX10_soon_47 ((hR15 _).trans rfl) rfl rfl
    · refine zs_aload_n (pc := 21) 0 dX10_soon_21 rfl rfl ?_
      refine zs_callVv (pc := 22) [] [] (km_fillsPlans D h0 m t15.2) kv_fillsPlans q2066 zc_X10 zm_recv dX10_soon_22 rfl rfl (Nat.le_of_ble_eq_true rfl) (Nat.le_of_ble_eq_true rfl) (fun M3 => ?_)
      refine zs_aload_n (pc := 25) 0 dX10_soon_25 rfl rfl ?_
      refine zs_callVwI (pc := 26) [] [] (km_peakOf D h0 m M3) kv_peakOf q2090 zc_X10 zm_recv dX10_soon_26 rfl rfl (Nat.le_of_ble_eq_true rfl) (Nat.le_of_ble_eq_true rfl) (fun p4 => ?_)
      refine zs_iload_n (pc := 29) 1 dX10_soon_29 rfl rfl ?_
      refine zs_icmp_lt (pc := 30) (tgt := 35) dX10_soon_30 (by decide) ?_ ?_
      · refine zs_aload_n (pc := 35) 0 dX10_soon_35 rfl rfl ?_
        refine zs_callVv (pc := 36) [] [] (km_yearGoes D h0 m p4.2) kv_yearGoes q1998 zc_X10 zm_recv dX10_soon_36 rfl rfl (Nat.le_of_ble_eq_true rfl) (Nat.le_of_ble_eq_true rfl) (fun M5 => ?_)
        refine zs_iinc (pc := 39) (lv' := [(0, .ref m), (1, .int a1), (2, .int (t15.1 + 1))]) 2 [1, 2, 0] dX10_soon_39 rfl rfl (by decide) rfl ?_
        refine zs_goto (pc := 42) (tgt := 15) dX10_soon_42 (by decide) ?_
        exact hL15 ((t15.1 + 1), M5)
      · refine zs_iload_n (pc := 33) 2 dX10_soon_33 rfl rfl ?_
        exact zs_iret (pc := 34) dX10_soon_34 ((hR15 _).trans rfl) rfl rfl
  · refine zs_iconst (pc := 7) (v := (-1)) dX10_soon_7 rfl ?_
    exact zs_iret (pc := 8) dX10_soon_8 rfl rfl rfl
theorem kv_likesMost : zs_mV RX10 yX10_likesMost cX10_likesMost 4 none 1 := ⟨q2120, qs122, q152, q2121, by decide, by decide +kernel⟩
def gm_likesMost (M : zm_S) (a1 : Int32) : Option (zm_S) :=
if a1 < 0 then (some M)
else ((some (a1 / 10)).bind fun x1 =>
(some (zs_rem a1 10)).bind fun x2 =>
(zs_ald 36 (M.2.1 58) ((6 * x1) + x2)).bind fun x3 =>
(zs_ast 36 ((6 * x1) + x2) (zm_sA M 59 ((6 * x1) + x2) x3)).bind fun M4 =>
(zs_ald 36 (M4.2.1 58) ((6 * x2) + x1)).bind fun x5 =>
(zs_ast 36 ((6 * x2) + x1) (zm_sA M4 59 ((6 * x2) + x1) x5)).bind fun M6 =>
some M6)
set_option maxHeartbeats 4000000 in
theorem km_likesMost (D : zs_D) (h0 : zs_AH) (m : Nat) (M : zm_S) (a1 : Int32) : zs_Con D (zm_R h0 m) zm_bd zs_eV yX10_likesMost cX10_likesMost 4 none 0 [.ref m, .int a1] M ((gm_likesMost M a1).map fun x => ((), x)) := by
  unfold gm_likesMost
  refine zs_conV (own := RX10) (nm := "likesMost") pl_X10 rfl rfl (Nat.le_of_ble_eq_true rfl) ?_
  refine zs_lv (lv' := [(0, .ref m), (1, .int a1)]) rfl ?_
  refine zs_iload_n (pc := 0) 1 dX10_likesMost_0 rfl rfl ?_
  refine zs_if_ge (pc := 1) (tgt := 5) dX10_likesMost_1 (by decide) ?_ ?_
  · exact zs_vret (pc := 4) dX10_likesMost_4 rfl rfl
  · refine zs_iload_n (pc := 5) 1 dX10_likesMost_5 rfl rfl ?_
    refine zs_bipush (pc := 6) (v := 10) dX10_likesMost_6 (by decide) ?_
    refine zs_idivK (pc := 8) dX10_likesMost_8 (by decide) ?_
    refine zs_nm (fun x1 => ?_)
    refine zs_istore_n (pc := 9) (lv' := [(0, .ref m), (1, .int a1), (2, .int x1)]) [1, 2, 0] dX10_likesMost_9 rfl (by decide) rfl ?_
    refine zs_iload_n (pc := 10) 1 dX10_likesMost_10 rfl rfl ?_
    refine zs_bipush (pc := 11) (v := 10) dX10_likesMost_11 (by decide) ?_
    refine zs_iremK (pc := 13) dX10_likesMost_13 (by decide) ?_
    refine zs_nm (fun x2 => ?_)
    refine zs_istore_n (pc := 14) (lv' := [(0, .ref m), (1, .int a1), (2, .int x1), (3, .int x2)]) [1, 2, 3, 0] dX10_likesMost_14 rfl (by decide) rfl ?_
    refine zs_aload_n (pc := 15) 0 dX10_likesMost_15 rfl rfl ?_
    refine zm_geta (pc := 16) 59 38 (by decide) rfl q1592 dX10_likesMost_16 ?_
    refine zs_bipush (pc := 19) (v := 6) dX10_likesMost_19 (by decide) ?_
    refine zs_iload_n (pc := 21) 2 dX10_likesMost_21 rfl rfl ?_
    refine zs_imul (pc := 22) dX10_likesMost_22 ?_
    refine zs_iload_n (pc := 23) 3 dX10_likesMost_23 rfl rfl ?_
    refine zs_iadd (pc := 24) dX10_likesMost_24 ?_
    refine zs_aload_n (pc := 25) 0 dX10_likesMost_25 rfl rfl ?_
    refine zm_geta (pc := 26) 58 37 (by decide) rfl q1591 dX10_likesMost_26 ?_
    refine zs_bipush (pc := 29) (v := 6) dX10_likesMost_29 (by decide) ?_
    refine zs_iload_n (pc := 31) 2 dX10_likesMost_31 rfl rfl ?_
    refine zs_imul (pc := 32) dX10_likesMost_32 ?_
    refine zs_iload_n (pc := 33) 3 dX10_likesMost_33 rfl rfl ?_
    refine zs_iadd (pc := 34) dX10_likesMost_34 ?_
    refine zm_iald (pc := 35) 58 37 zm_p58 dX10_likesMost_35 (fun x3 => ?_)
    refine zm_iast (pc := 36) 59 38 zm_p59 dX10_likesMost_36 (fun M4 => ?_)
    refine zs_aload_n (pc := 37) 0 dX10_likesMost_37 rfl rfl ?_
    refine zm_geta (pc := 38) 59 38 (by decide) rfl q1592 dX10_likesMost_38 ?_
    refine zs_bipush (pc := 41) (v := 6) dX10_likesMost_41 (by decide) ?_
    refine zs_iload_n (pc := 43) 3 dX10_likesMost_43 rfl rfl ?_
    refine zs_imul (pc := 44) dX10_likesMost_44 ?_
    refine zs_iload_n (pc := 45) 2 dX10_likesMost_45 rfl rfl ?_
    refine zs_iadd (pc := 46) dX10_likesMost_46 ?_
    refine zs_aload_n (pc := 47) 0 dX10_likesMost_47 rfl rfl ?_
    refine zm_geta (pc := 48) 58 37 (by decide) rfl q1591 dX10_likesMost_48 ?_
    refine zs_bipush (pc := 51) (v := 6) dX10_likesMost_51 (by decide) ?_
    refine zs_iload_n (pc := 53) 3 dX10_likesMost_53 rfl rfl ?_
    refine zs_imul (pc := 54) dX10_likesMost_54 ?_
    refine zs_iload_n (pc := 55) 2 dX10_likesMost_55 rfl rfl ?_
    refine zs_iadd (pc := 56) dX10_likesMost_56 ?_
    refine zm_iald (pc := 57) 58 37 zm_p58 dX10_likesMost_57 (fun x5 => ?_)
    refine zm_iast (pc := 58) 59 38 zm_p59 dX10_likesMost_58 (fun M6 => ?_)
    exact zs_vret (pc := 59) dX10_likesMost_59 rfl rfl
theorem kv_isPeace : zs_mV RX10 yX10_isPeace cX10_isPeace 5 (some .boolean) 3 := ⟨q2116, qs121, q152, q2117, by decide, by decide +kernel⟩
def gm_isPeace_L3 : (Int32 × zm_S) → Option ((Int32 × zm_S) ⊕ (zm_S)) := fun t3 =>
if t3.1 < 36 then ((zs_ald 36 (t3.2.2.1 57) t3.1).bind fun x1 =>
(zs_ast 36 t3.1 (zm_sA t3.2 59 t3.1 x1)).bind fun M2 =>
some (Sum.inl ((t3.1 + 1), M2)))
else (some (Sum.inr t3.2))
def gm_isPeace (M : zm_S) (a1 : Int32) (a2 : Int32) (a3 : Int32) : Option (Bool × zm_S) :=
(zs_loop 5000 gm_isPeace_L3 (0, M)).bind fun (r3 : zm_S) =>
(gm_likesMost r3 a2).bind fun M4 =>
(gm_likesMost M4 a3).bind fun M5 =>
(gm_peakOf M5).bind fun p6 =>
if p6.1 < a1 then (some (false, p6.2))
else (some (true, p6.2))
set_option maxHeartbeats 4000000 in
theorem km_isPeace (D : zs_D) (h0 : zs_AH) (m : Nat) (M : zm_S) (a1 : Int32) (a2 : Int32) (a3 : Int32) : zs_Con D (zm_R h0 m) zm_bd zs_eB yX10_isPeace cX10_isPeace 5 (some .boolean) 4 [.ref m, .int a1, .int a2, .int a3] M (gm_isPeace M a1 a2 a3) := by
  unfold gm_isPeace
  refine zs_con (own := RX10) (nm := "isPeace") pl_X10 rfl rfl (Nat.le_of_ble_eq_true rfl) ?_
  refine zs_lv (lv' := [(0, .ref m), (1, .int a1), (2, .int a2), (3, .int a3)]) rfl ?_
  refine zs_iconst (pc := 0) (v := 0) dX10_isPeace_0 rfl ?_
  refine zs_istore (pc := 1) (lv' := [(0, .ref m), (1, .int a1), (2, .int a2), (3, .int a3), (4, .int 0)]) [1, 2, 3, 4, 0] dX10_isPeace_1 (by decide) rfl ?_
  refine zs_whileJ (pc := 3) (fun (t3 : Int32 × zm_S) => t3.2) (fun (t3 : Int32 × zm_S) => [(0, .ref m), (1, .int a1), (2, .int a2), (3, .int a3), (4, .int t3.1)]) 5000 (0, M) (fun (r3 : zm_S) => r3) 30 (fun (r3 : zm_S) => [(0, .ref m), (1, .int a1), (2, .int a2), (3, .int a3)]) [] (fun r3 => ?_) (fun X3 hL3 hE3 t3 => ?_)
  · refine zs_aload_n (pc := 30) 0 dX10_isPeace_30 rfl rfl ?_
    refine zs_iload_n (pc := 31) 2 dX10_isPeace_31 rfl rfl ?_
    refine zs_callVv (pc := 32) [.int a2] [] (km_likesMost D h0 m r3 a2) kv_likesMost q2118 zc_X10 zm_recv dX10_isPeace_32 rfl rfl (Nat.le_of_ble_eq_true rfl) (Nat.le_of_ble_eq_true rfl) (fun M4 => ?_)
    refine zs_aload_n (pc := 35) 0 dX10_isPeace_35 rfl rfl ?_
    refine zs_iload_n (pc := 36) 3 dX10_isPeace_36 rfl rfl ?_
    refine zs_callVv (pc := 37) [.int a3] [] (km_likesMost D h0 m M4 a3) kv_likesMost q2118 zc_X10 zm_recv dX10_isPeace_37 rfl rfl (Nat.le_of_ble_eq_true rfl) (Nat.le_of_ble_eq_true rfl) (fun M5 => ?_)
    refine zs_aload_n (pc := 40) 0 dX10_isPeace_40 rfl rfl ?_
    refine zs_callVwI (pc := 41) [] [] (km_peakOf D h0 m M5) kv_peakOf q2090 zc_X10 zm_recv dX10_isPeace_41 rfl rfl (Nat.le_of_ble_eq_true rfl) (Nat.le_of_ble_eq_true rfl) (fun p6 => ?_)
    refine zs_iload_n (pc := 44) 1 dX10_isPeace_44 rfl rfl ?_
    refine zs_icmp_lt (pc := 45) (tgt := 52) dX10_isPeace_45 (by decide) ?_ ?_
    · refine zs_iconst (pc := 52) (v := 0) dX10_isPeace_52 rfl ?_
      exact zs_iret (pc := 53) dX10_isPeace_53 rfl rfl rfl
    · refine zs_iconst (pc := 48) (v := 1) dX10_isPeace_48 rfl ?_
      refine zs_goto (pc := 49) (tgt := 53) dX10_isPeace_49 (by decide) ?_
      exact zs_iret (pc := 53) dX10_isPeace_53 rfl rfl rfl
  · unfold gm_isPeace_L3
    refine zs_iload (pc := 3) 4 dX10_isPeace_3 rfl ?_
    refine zs_bipush (pc := 5) (v := 36) dX10_isPeace_5 (by decide) ?_
    refine zs_icmp_ge (pc := 7) (tgt := 30) dX10_isPeace_7 (by decide) ?_ ?_
    · refine zs_aload_n (pc := 10) 0 dX10_isPeace_10 rfl rfl ?_
      refine zm_geta (pc := 11) 59 38 (by decide) rfl q1592 dX10_isPeace_11 ?_
      refine zs_iload (pc := 14) 4 dX10_isPeace_14 rfl ?_
      refine zs_aload_n (pc := 16) 0 dX10_isPeace_16 rfl rfl ?_
      refine zm_geta (pc := 17) 57 36 (by decide) rfl q1590 dX10_isPeace_17 ?_
      refine zs_iload (pc := 20) 4 dX10_isPeace_20 rfl ?_
      refine zm_iald (pc := 22) 57 36 zm_p57 dX10_isPeace_22 (fun x1 => ?_)
      refine zm_iast (pc := 23) 59 38 zm_p59 dX10_isPeace_23 (fun M2 => ?_)
      refine zs_iinc (pc := 24) (lv' := [(0, .ref m), (1, .int a1), (2, .int a2), (3, .int a3), (4, .int (t3.1 + 1))]) 4 [1, 2, 3, 4, 0] dX10_isPeace_24 rfl rfl (by decide) rfl ?_
      refine zs_goto (pc := 27) (tgt := 3) dX10_isPeace_27 (by decide) ?_
      exact hL3 ((t3.1 + 1), M2)
    · refine zs_sub (lv' := [(0, .ref m), (1, .int a1), (2, .int a2), (3, .int a3)]) [0, 1, 2, 3] rfl ?_
      exact hE3 t3.2
theorem kv_isPair : zs_mV RX10 yX10_isPair cX10_isPair 2 (some .boolean) 1 := ⟨q2124, qs123, q152, q2125, by decide, by decide +kernel⟩
def gm_isPair (M : zm_S) (a1 : Int32) : Option (Bool) :=
zs_let (fun (p1 : Unit) => some false) fun J26 =>
if (a1 / 10) < (zs_rem a1 10) then ((gm_isHouse M (zs_rem a1 10)).bind fun b2 =>
if b2 = true then (some true)
else (J26 ()))
else (J26 ())
set_option maxHeartbeats 4000000 in
theorem km_isPair (D : zs_D) (h0 : zs_AH) (m : Nat) (M : zm_S) (a1 : Int32) : zs_Con D (zm_R h0 m) zm_bd zs_eB yX10_isPair cX10_isPair 2 (some .boolean) 2 [.ref m, .int a1] M ((gm_isPair M a1).map fun x => (x, M)) := by
  unfold gm_isPair
  refine zs_conR (own := RX10) (nm := "isPair") pl_X10 rfl rfl (Nat.le_of_ble_eq_true rfl) ?_
  refine zs_lv (lv' := [(0, .ref m), (1, .int a1)]) rfl ?_
  refine zs_iload_n (pc := 0) 1 dX10_isPair_0 rfl rfl ?_
  refine zs_bipush (pc := 1) (v := 10) dX10_isPair_1 (by decide) ?_
  refine zs_idivK (pc := 3) dX10_isPair_3 (by decide) ?_
  refine zs_iload_n (pc := 4) 1 dX10_isPair_4 rfl rfl ?_
  refine zs_bipush (pc := 5) (v := 10) dX10_isPair_5 (by decide) ?_
  refine zs_iremK (pc := 7) dX10_isPair_7 (by decide) ?_
  refine zs_letJ (pc := 8) (fun (p1 : Unit) => M) 26 (fun (p1 : Unit) => []) (fun (p1 : Unit) => []) (fun p1 => ?_) (fun J26 h26 => ?_)
  · refine zs_iconst (pc := 26) (v := 0) dX10_isPair_26 rfl ?_
    exact zs_iret (pc := 27) dX10_isPair_27 rfl rfl rfl
  · refine zs_icmp_ge (pc := 8) (tgt := 26) dX10_isPair_8 (by decide) ?_ ?_
    · refine zs_aload_n (pc := 11) 0 dX10_isPair_11 rfl rfl ?_
      refine zs_iload_n (pc := 12) 1 dX10_isPair_12 rfl rfl ?_
      refine zs_bipush (pc := 13) (v := 10) dX10_isPair_13 (by decide) ?_
      refine zs_iremK (pc := 15) dX10_isPair_15 (by decide) ?_
      refine zs_callVrB (pc := 16) [.int (zs_rem a1 10)] [] (km_isHouse D h0 m M (zs_rem a1 10)) kv_isHouse q1866 zc_X10 zm_recv dX10_isPair_16 rfl rfl (Nat.le_of_ble_eq_true rfl) (Nat.le_of_ble_eq_true rfl) (fun b2 => ?_)
      refine zs_if_f (pc := 19) (tgt := 26) dX10_isPair_19 (by decide) ?_ ?_
      · refine zs_iconst (pc := 22) (v := 1) dX10_isPair_22 rfl ?_
        refine zs_goto (pc := 23) (tgt := 27) dX10_isPair_23 (by decide) ?_
        exact zs_iret (pc := 27) dX10_isPair_27 rfl rfl rfl
      · refine zs_sub (lv' := []) [] rfl ?_
        exact h26 ()
    · refine zs_sub (lv' := []) [] rfl ?_
      exact h26 ()
theorem kv_peace : zs_mV RX10 yX10_peace cX10_peace 5 (some .int) 2 := ⟨q2111, q2112, q152, q2113, by decide, by decide +kernel⟩
def gm_peace_L48 (a1 : Int32) (a2 : Int32) : (Int32 × zm_S) → Option ((Int32 × zm_S) ⊕ ((zm_S) ⊕ (Int32 × zm_S))) := fun t48 =>
if t48.1 < 60 then ((gm_isPair t48.2 t48.1).bind fun b6 =>
zs_let (fun (p7 : zm_S) => some (Sum.inl ((t48.1 + 1), p7))) fun J91 =>
if b6 = true then ((gm_isPeace t48.2 a1 t48.1 (-1)).bind fun p8 =>
if p8.1 = true then (if a2 = 0 then (some (Sum.inr (Sum.inr (1, p8.2))))
else (if a2 = 1 then (some (Sum.inr (Sum.inr (t48.1, p8.2))))
else (some (Sum.inr (Sum.inr ((-1), p8.2))))))
else (J91 p8.2))
else (J91 t48.2))
else (some (Sum.inr (Sum.inl t48.2)))
def gm_peace_L110 (t99 : Int32 × zm_S) (a1 : Int32) (a2 : Int32) : (Int32 × zm_S) → Option ((Int32 × zm_S) ⊕ ((zm_S) ⊕ (Int32 × zm_S))) := fun t110 =>
if t110.1 < 60 then ((gm_isPair t110.2 t99.1).bind fun b11 =>
if b11 = true then ((gm_isPair t110.2 t110.1).bind fun b12 =>
zs_let (fun (p13 : zm_S) => some (Sum.inl ((t110.1 + 1), p13))) fun J165 =>
if b12 = true then ((gm_isPeace t110.2 a1 t99.1 t110.1).bind fun p14 =>
if p14.1 = true then (if a2 = 0 then (some (Sum.inr (Sum.inr (2, p14.2))))
else (if a2 = 1 then (some (Sum.inr (Sum.inr (t99.1, p14.2))))
else (some (Sum.inr (Sum.inr (t110.1, p14.2))))))
else (J165 p14.2))
else (J165 t110.2))
else (some (Sum.inr (Sum.inl t110.2))))
else (some (Sum.inr (Sum.inl t110.2)))
def gm_peace_L99 (a1 : Int32) (a2 : Int32) : (Int32 × zm_S) → Option ((Int32 × zm_S) ⊕ ((Int32 × Int32 × zm_S) ⊕ (Int32 × zm_S))) := fun t99 =>
if t99.1 < 60 then ((some (t99.1 + 1)).bind fun x10 =>
(zs_loop 5000 (gm_peace_L110 t99 a1 a2) (x10, t99.2)).bind (Sum.elim (fun (r15 : zm_S) =>
some (Sum.inl ((t99.1 + 1), r15)))
 (fun z => some (Sum.inr (Sum.inr z)))))
else (some (Sum.inr (Sum.inr ((-2), t99.2))))
def gm_peace (M : zm_S) (a1 : Int32) (a2 : Int32) : Option (Int32 × zm_S) :=
(gm_isWeight a1).bind fun b1 =>
if b1 = true then ((gm_in a2 0 2).bind fun b2 =>
if b2 = true then ((gm_copies M).bind fun M3 =>
(gm_fillsPlans M3).bind fun M4 =>
(gm_isPeace M4 a1 (-1) (-1)).bind fun p5 =>
if p5.1 = true then (if a2 = 0 then (some (0, p5.2))
else (some ((-1), p5.2)))
else ((zs_loop 5000 (gm_peace_L48 a1 a2) (0, p5.2)).bind (Sum.elim (fun (r9 : zm_S) =>
(zs_loop 5000 (gm_peace_L99 a1 a2) (0, r9)).bind (Sum.elim (fun (r16 : Int32 × Int32 × zm_S) =>
if a2 = 0 then (some (2, r16.2.2))
else (if a2 = 1 then (some (r16.1, r16.2.2))
else (some (r16.2.1, r16.2.2))))
 (fun z => some z)))
 (fun z => some z))))
else (some ((-1), M)))
else (some ((-1), M))
set_option maxHeartbeats 4000000 in
theorem km_peace (D : zs_D) (h0 : zs_AH) (m : Nat) (M : zm_S) (a1 : Int32) (a2 : Int32) : zs_Con D (zm_R h0 m) zm_bd zs_eI yX10_peace cX10_peace 5 (some .int) 6 [.ref m, .int a1, .int a2] M (gm_peace M a1 a2) := by
  unfold gm_peace
  refine zs_con (own := RX10) (nm := "peace") pl_X10 rfl rfl (Nat.le_of_ble_eq_true rfl) ?_
  refine zs_lv (lv' := [(0, .ref m), (1, .int a1), (2, .int a2)]) rfl ?_
  refine zs_iload_n (pc := 0) 1 dX10_peace_0 rfl rfl ?_
  refine zs_callSrB (pc := 1) [.int a1] [] (km_isWeight D _ _ M a1) kv_isWeight q1972 dX10_peace_1 rfl rfl (Nat.le_of_ble_eq_true rfl) (Nat.le_of_ble_eq_true rfl) (fun b1 => ?_)
  refine zs_if_f (pc := 4) (tgt := 16) dX10_peace_4 (by decide) ?_ ?_
  · refine zs_iload_n (pc := 7) 2 dX10_peace_7 rfl rfl ?_
    refine zs_iconst (pc := 8) (v := 0) dX10_peace_8 rfl ?_
    refine zs_iconst (pc := 9) (v := 2) dX10_peace_9 rfl ?_
    refine zs_callSrB (pc := 10) [.int a2, .int 0, .int 2] [] (km_in D _ _ M a2 0 2) kv_in q1870 dX10_peace_10 rfl rfl (Nat.le_of_ble_eq_true rfl) (Nat.le_of_ble_eq_true rfl) (fun b2 => ?_)
    refine zs_if_t (pc := 13) (tgt := 18) dX10_peace_13 (by decide) ?_ ?_
    · refine zs_aload_n (pc := 18) 0 dX10_peace_18 rfl rfl ?_
      refine zs_callVv (pc := 19) [] [] (km_copies D h0 m M) kv_copies q1873 zc_X10 zm_recv dX10_peace_19 rfl rfl (Nat.le_of_ble_eq_true rfl) (Nat.le_of_ble_eq_true rfl) (fun M3 => ?_)
      refine zs_aload_n (pc := 22) 0 dX10_peace_22 rfl rfl ?_
      refine zs_callVv (pc := 23) [] [] (km_fillsPlans D h0 m M3) kv_fillsPlans q2066 zc_X10 zm_recv dX10_peace_23 rfl rfl (Nat.le_of_ble_eq_true rfl) (Nat.le_of_ble_eq_true rfl) (fun M4 => ?_)
      refine zs_aload_n (pc := 26) 0 dX10_peace_26 rfl rfl ?_
      refine zs_iload_n (pc := 27) 1 dX10_peace_27 rfl rfl ?_
      refine zs_iconst (pc := 28) (v := (-1)) dX10_peace_28 rfl ?_
      refine zs_iconst (pc := 29) (v := (-1)) dX10_peace_29 rfl ?_
      refine zs_callVwB (pc := 30) [.int a1, .int (-1), .int (-1)] [] (km_isPeace D h0 m M4 a1 (-1) (-1)) kv_isPeace q2114 zc_X10 zm_recv dX10_peace_30 rfl rfl (Nat.le_of_ble_eq_true rfl) (Nat.le_of_ble_eq_true rfl) (fun p5 => ?_)
      refine zs_if_f (pc := 33) (tgt := 46) dX10_peace_33 (by decide) ?_ ?_
      · refine zs_iload_n (pc := 36) 2 dX10_peace_36 rfl rfl ?_
        refine zs_if_ne (pc := 37) (tgt := 44) dX10_peace_37 (by decide) ?_ ?_
        · refine zs_iconst (pc := 40) (v := 0) dX10_peace_40 rfl ?_
          refine zs_goto (pc := 41) (tgt := 45) dX10_peace_41 (by decide) ?_
          exact zs_iret (pc := 45) dX10_peace_45 rfl rfl rfl
        · refine zs_iconst (pc := 44) (v := (-1)) dX10_peace_44 rfl ?_
          exact zs_iret (pc := 45) dX10_peace_45 rfl rfl rfl
      · refine zs_iconst (pc := 46) (v := 0) dX10_peace_46 rfl ?_
        refine zs_istore_n (pc := 47) (lv' := [(0, .ref m), (1, .int a1), (2, .int a2), (3, .int 0)]) [1, 2, 3, 0] dX10_peace_47 rfl (by decide) rfl ?_
        refine zs_whileR (pc := 48) (fun (t48 : Int32 × zm_S) => t48.2) (fun (t48 : Int32 × zm_S) => [(0, .ref m), (1, .int a1), (2, .int a2), (3, .int t48.1)]) 5000 (0, p5.2) (fun (r9 : zm_S) => r9) 97 (fun (r9 : zm_S) => [(0, .ref m), (1, .int a1), (2, .int a2)]) [] (fun r9 => ?_) (fun X48 hL48 hE48 hR48 t48 => ?_)
        · refine zs_iconst (pc := 97) (v := 0) dX10_peace_97 rfl ?_
          refine zs_istore_n (pc := 98) (lv' := [(0, .ref m), (1, .int a1), (2, .int a2), (3, .int 0)]) [1, 2, 3, 0] dX10_peace_98 rfl (by decide) rfl ?_
          refine zs_whileR (pc := 99) (fun (t99 : Int32 × zm_S) => t99.2) (fun (t99 : Int32 × zm_S) => [(0, .ref m), (1, .int a1), (2, .int a2), (3, .int t99.1)]) 5000 (0, r9) (fun (r16 : Int32 × Int32 × zm_S) => r16.2.2) 145 (fun (r16 : Int32 × Int32 × zm_S) => [(2, .int a2), (3, .int r16.1), (4, .int r16.2.1)]) [] (fun r16 => ?_) (fun X99 hL99 hE99 hR99 t99 => ?_)
          · refine zs_iload_n (pc := 145) 0 dX10_peace_145 rfl rfl ?_
            refine zs_if_ne (pc := 146) (tgt := 153) dX10_peace_146 (by decide) ?_ ?_
            · refine zs_iconst (pc := 149) (v := 2) dX10_peace_149 rfl ?_
              refine zs_goto (pc := 150) (tgt := 164) dX10_peace_150 (by decide) ?_
              exact zs_iret (pc := 164) dX10_peace_164 rfl rfl rfl
            · refine zs_iload_n (pc := 153) 0 dX10_peace_153 rfl rfl ?_
              refine zs_iconst (pc := 154) (v := 1) dX10_peace_154 rfl ?_
              refine zs_icmp_ne (pc := 155) (tgt := 162) dX10_peace_155 (by decide) ?_ ?_
              · refine zs_iload_n (pc := 158) 1 dX10_peace_158 rfl rfl ?_
                refine zs_goto (pc := 159) (tgt := 164) dX10_peace_159 (by decide) ?_
                exact zs_iret (pc := 164) dX10_peace_164 rfl rfl rfl
              · refine zs_iload (pc := 162) 2 dX10_peace_162 rfl ?_
                exact zs_iret (pc := 164) dX10_peace_164 rfl rfl rfl
          · unfold gm_peace_L99
            refine zs_iload_n (pc := 99) 3 dX10_peace_99 rfl rfl ?_
            refine zs_bipush (pc := 100) (v := 60) dX10_peace_100 (by decide) ?_
            refine zs_icmp_ge (pc := 102) (tgt := 177) dX10_peace_102 (by decide) ?_ ?_
            · refine zs_iload_n (pc := 105) 3 dX10_peace_105 rfl rfl ?_
              refine zs_iconst (pc := 106) (v := 1) dX10_peace_106 rfl ?_
              refine zs_iadd (pc := 107) dX10_peace_107 ?_
              refine zs_nm (fun x10 => ?_)
              refine zs_istore (pc := 108) (lv' := [(0, .ref m), (1, .int a1), (2, .int a2), (3, .int t99.1), (4, .int x10)]) [1, 2, 3, 4, 0] dX10_peace_108 (by decide) rfl ?_
              refine zs_whileR (pc := 110) (fun (t110 : Int32 × zm_S) => t110.2) (fun (t110 : Int32 × zm_S) => [(0, .ref m), (1, .int a1), (2, .int a2), (3, .int t99.1), (4, .int t110.1)]) 5000 (x10, t99.2) (fun (r15 : zm_S) => r15) 171 (fun (r15 : zm_S) => [(0, .ref m), (1, .int a1), (2, .int a2), (3, .int t99.1)]) [] (fun r15 => ?_) (fun X110 hL110 hE110 hR110 t110 => ?_)
              · refine zs_iinc (pc := 171) (lv' := [(0, .ref m), (1, .int a1), (2, .int a2), (3, .int (t99.1 + 1))]) 3 [1, 2, 3, 0] dX10_peace_171 rfl rfl (by decide) rfl ?_
                refine zs_goto (pc := 174) (tgt := 99) dX10_peace_174 (by decide) ?_
                exact hL99 ((t99.1 + 1), r15)
              · unfold gm_peace_L110
                refine zs_iload (pc := 110) 4 dX10_peace_110 rfl ?_
                refine zs_bipush (pc := 112) (v := 60) dX10_peace_112 (by decide) ?_
                refine zs_icmp_ge (pc := 114) (tgt := 171) dX10_peace_114 (by decide) ?_ ?_
                · refine zs_aload_n (pc := 117) 0 dX10_peace_117 rfl rfl ?_
                  refine zs_iload_n (pc := 118) 3 dX10_peace_118 rfl rfl ?_
                  refine zs_callVrB (pc := 119) [.int t99.1] [] (km_isPair D h0 m t110.2 t99.1) kv_isPair q2122 zc_X10 zm_recv dX10_peace_119 rfl rfl (Nat.le_of_ble_eq_true rfl) (Nat.le_of_ble_eq_true rfl) (fun b11 => ?_)
                  refine zs_if_f (pc := 122) (tgt := 171) dX10_peace_122 (by decide) ?_ ?_
                  · refine zs_aload_n (pc := 125) 0 dX10_peace_125 rfl rfl ?_
                    refine zs_iload (pc := 126) 4 dX10_peace_126 rfl ?_
                    refine zs_callVrB (pc := 128) [.int t110.1] [] (km_isPair D h0 m t110.2 t110.1) kv_isPair q2122 zc_X10 zm_recv dX10_peace_128 rfl rfl (Nat.le_of_ble_eq_true rfl) (Nat.le_of_ble_eq_true rfl) (fun b12 => ?_)
                    refine zs_letJ (pc := 131) (fun (p13 : zm_S) => p13) 165 (fun (p13 : zm_S) => [(0, .ref m), (1, .int a1), (2, .int a2), (3, .int t99.1), (4, .int t110.1)]) (fun (p13 : zm_S) => []) (fun p13 => ?_) (fun J165 h165 => ?_)
                    · refine zs_iinc (pc := 165) (lv' := [(0, .ref m), (1, .int a1), (2, .int a2), (3, .int t99.1), (4, .int (t110.1 + 1))]) 4 [1, 2, 3, 4, 0] dX10_peace_165 rfl rfl (by decide) rfl ?_
                      refine zs_goto (pc := 168) (tgt := 110) dX10_peace_168 (by decide) ?_
                      exact hL110 ((t110.1 + 1), p13)
                    · refine zs_if_f (pc := 131) (tgt := 165) dX10_peace_131 (by decide) ?_ ?_
                      · refine zs_aload_n (pc := 134) 0 dX10_peace_134 rfl rfl ?_
                        refine zs_iload_n (pc := 135) 1 dX10_peace_135 rfl rfl ?_
                        refine zs_iload_n (pc := 136) 3 dX10_peace_136 rfl rfl ?_
                        refine zs_iload (pc := 137) 4 dX10_peace_137 rfl ?_
                        refine zs_callVwB (pc := 139) [.int a1, .int t99.1, .int t110.1] [] (km_isPeace D h0 m t110.2 a1 t99.1 t110.1) kv_isPeace q2114 zc_X10 zm_recv dX10_peace_139 rfl rfl (Nat.le_of_ble_eq_true rfl) (Nat.le_of_ble_eq_true rfl) (fun p14 => ?_)
                        refine zs_if_f (pc := 142) (tgt := 165) dX10_peace_142 (by decide) ?_ ?_
                        · refine zs_iload_n (pc := 145) 2 dX10_peace_145 rfl rfl ?_
                          refine zs_if_ne (pc := 146) (tgt := 153) dX10_peace_146 (by decide) ?_ ?_
                          · refine zs_iconst (pc := 149) (v := 2) dX10_peace_149 rfl ?_
                            refine zs_goto (pc := 150) (tgt := 164) dX10_peace_150 (by decide) ?_
                            exact zs_iret (pc := 164) dX10_peace_164 ((hR110 _).trans ((hR99 _).trans rfl)) rfl rfl
                          · refine zs_iload_n (pc := 153) 2 dX10_peace_153 rfl rfl ?_
                            refine zs_iconst (pc := 154) (v := 1) dX10_peace_154 rfl ?_
                            refine zs_icmp_ne (pc := 155) (tgt := 162) dX10_peace_155 (by decide) ?_ ?_
                            · refine zs_iload_n (pc := 158) 3 dX10_peace_158 rfl rfl ?_
                              refine zs_goto (pc := 159) (tgt := 164) dX10_peace_159 (by decide) ?_
                              exact zs_iret (pc := 164) dX10_peace_164 ((hR110 _).trans ((hR99 _).trans rfl)) rfl rfl
                            · refine zs_iload (pc := 162) 4 dX10_peace_162 rfl ?_
                              exact zs_iret (pc := 164) dX10_peace_164 ((hR110 _).trans ((hR99 _).trans rfl)) rfl rfl
                        · exact h165 p14.2
                      · exact h165 t110.2
                  · refine zs_sub (lv' := [(0, .ref m), (1, .int a1), (2, .int a2), (3, .int t99.1)]) [0, 1, 2, 3] rfl ?_
                    exact hE110 t110.2
                · refine zs_sub (lv' := [(0, .ref m), (1, .int a1), (2, .int a2), (3, .int t99.1)]) [0, 1, 2, 3] rfl ?_
                  exact hE110 t110.2
            · refine zs_bipush (pc := 177) (v := (-2)) dX10_peace_177 (by decide) ?_
              exact zs_iret (pc := 179) dX10_peace_179 ((hR99 _).trans rfl) rfl rfl
        · unfold gm_peace_L48
          refine zs_iload_n (pc := 48) 3 dX10_peace_48 rfl rfl ?_
          refine zs_bipush (pc := 49) (v := 60) dX10_peace_49 (by decide) ?_
          refine zs_icmp_ge (pc := 51) (tgt := 97) dX10_peace_51 (by decide) ?_ ?_
          · refine zs_aload_n (pc := 54) 0 dX10_peace_54 rfl rfl ?_
            refine zs_iload_n (pc := 55) 3 dX10_peace_55 rfl rfl ?_
            refine zs_callVrB (pc := 56) [.int t48.1] [] (km_isPair D h0 m t48.2 t48.1) kv_isPair q2122 zc_X10 zm_recv dX10_peace_56 rfl rfl (Nat.le_of_ble_eq_true rfl) (Nat.le_of_ble_eq_true rfl) (fun b6 => ?_)
            refine zs_letJ (pc := 59) (fun (p7 : zm_S) => p7) 91 (fun (p7 : zm_S) => [(0, .ref m), (1, .int a1), (2, .int a2), (3, .int t48.1)]) (fun (p7 : zm_S) => []) (fun p7 => ?_) (fun J91 h91 => ?_)
            · refine zs_iinc (pc := 91) (lv' := [(0, .ref m), (1, .int a1), (2, .int a2), (3, .int (t48.1 + 1))]) 3 [1, 2, 3, 0] dX10_peace_91 rfl rfl (by decide) rfl ?_
              refine zs_goto (pc := 94) (tgt := 48) dX10_peace_94 (by decide) ?_
              exact hL48 ((t48.1 + 1), p7)
            · refine zs_if_f (pc := 59) (tgt := 91) dX10_peace_59 (by decide) ?_ ?_
              · refine zs_aload_n (pc := 62) 0 dX10_peace_62 rfl rfl ?_
                refine zs_iload_n (pc := 63) 1 dX10_peace_63 rfl rfl ?_
                refine zs_iload_n (pc := 64) 3 dX10_peace_64 rfl rfl ?_
                refine zs_iconst (pc := 65) (v := (-1)) dX10_peace_65 rfl ?_
                refine zs_callVwB (pc := 66) [.int a1, .int t48.1, .int (-1)] [] (km_isPeace D h0 m t48.2 a1 t48.1 (-1)) kv_isPeace q2114 zc_X10 zm_recv dX10_peace_66 rfl rfl (Nat.le_of_ble_eq_true rfl) (Nat.le_of_ble_eq_true rfl) (fun p8 => ?_)
                refine zs_if_f (pc := 69) (tgt := 91) dX10_peace_69 (by decide) ?_ ?_
                · refine zs_iload_n (pc := 72) 2 dX10_peace_72 rfl rfl ?_
                  refine zs_if_ne (pc := 73) (tgt := 80) dX10_peace_73 (by decide) ?_ ?_
                  · refine zs_iconst (pc := 76) (v := 1) dX10_peace_76 rfl ?_
                    refine zs_goto (pc := 77) (tgt := 90) dX10_peace_77 (by decide) ?_
                    exact zs_iret (pc := 90) dX10_peace_90 ((hR48 _).trans rfl) rfl rfl
                  · refine zs_iload_n (pc := 80) 2 dX10_peace_80 rfl rfl ?_
                    refine zs_iconst (pc := 81) (v := 1) dX10_peace_81 rfl ?_
                    refine zs_icmp_ne (pc := 82) (tgt := 89) dX10_peace_82 (by decide) ?_ ?_
                    · refine zs_iload_n (pc := 85) 3 dX10_peace_85 rfl rfl ?_
                      refine zs_goto (pc := 86) (tgt := 90) dX10_peace_86 (by decide) ?_
                      exact zs_iret (pc := 90) dX10_peace_90 ((hR48 _).trans rfl) rfl rfl
                    · refine zs_iconst (pc := 89) (v := (-1)) dX10_peace_89 rfl ?_
                      exact zs_iret (pc := 90) dX10_peace_90 ((hR48 _).trans rfl) rfl rfl
                · exact h91 p8.2
              · exact h91 t48.2
          · refine zs_sub (lv' := [(0, .ref m), (1, .int a1), (2, .int a2)]) [0, 1, 2] rfl ?_
            exact hE48 t48.2
    · refine zs_iconst (pc := 16) (v := (-1)) dX10_peace_16 rfl ?_
      exact zs_iret (pc := 17) dX10_peace_17 rfl rfl rfl
  · refine zs_iconst (pc := 16) (v := (-1)) dX10_peace_16 rfl ?_
    exact zs_iret (pc := 17) dX10_peace_17 rfl rfl rfl
theorem kv_givesBits : zs_mV RX10 yX10_givesBits cX10_givesBits 3 (some .int) 0 := ⟨q2132, qs124, q152, q2133, by decide, by decide +kernel⟩
def gm_givesBits_L4 (M : zm_S) : (Int32 × Int32) → Option ((Int32 × Int32) ⊕ (Int32)) := fun t4 =>
if t4.2 < 6 then ((zs_ald 6 (M.2.1 55) t4.2).bind fun x1 =>
(if 0 < x1 then ((some (t4.1 ||| (zs_shl 1 t4.2))).bind fun x3 =>
some x3)
else (some t4.1)).bind fun (p2 : Int32) =>
some (Sum.inl (p2, (t4.2 + 1))))
else (some (Sum.inr t4.1))
def gm_givesBits (M : zm_S) : Option (Int32) :=
(zs_loop 5000 (gm_givesBits_L4 M) (0, 0)).bind fun z => some z
set_option maxHeartbeats 4000000 in
theorem km_givesBits (D : zs_D) (h0 : zs_AH) (m : Nat) (M : zm_S) : zs_Con D (zm_R h0 m) zm_bd zs_eI yX10_givesBits cX10_givesBits 3 (some .int) 0 [.ref m] M ((gm_givesBits M).map fun x => (x, M)) := by
  unfold gm_givesBits
  refine zs_conR (own := RX10) (nm := "givesBits") pl_X10 rfl rfl (Nat.le_of_ble_eq_true rfl) ?_
  refine zs_lv (lv' := [(0, .ref m)]) rfl ?_
  refine zs_iconst (pc := 0) (v := 0) dX10_givesBits_0 rfl ?_
  refine zs_istore_n (pc := 1) (lv' := [(0, .ref m), (1, .int 0)]) [1, 0] dX10_givesBits_1 rfl (by decide) rfl ?_
  refine zs_iconst (pc := 2) (v := 0) dX10_givesBits_2 rfl ?_
  refine zs_istore_n (pc := 3) (lv' := [(0, .ref m), (1, .int 0), (2, .int 0)]) [1, 2, 0] dX10_givesBits_3 rfl (by decide) rfl ?_
  refine zs_whileX (pc := 4) (fun (t4 : Int32 × Int32) => M) (fun (t4 : Int32 × Int32) => [(0, .ref m), (1, .int t4.1), (2, .int t4.2)]) 5000 (0, 0) (fun X4 hL4 hR4 t4 => ?_)
  unfold gm_givesBits_L4
  refine zs_iload_n (pc := 4) 2 dX10_givesBits_4 rfl rfl ?_
  refine zs_bipush (pc := 5) (v := 6) dX10_givesBits_5 (by decide) ?_
  refine zs_icmp_ge (pc := 7) (tgt := 31) dX10_givesBits_7 (by decide) ?_ ?_
  · refine zs_aload_n (pc := 10) 0 dX10_givesBits_10 rfl rfl ?_
    refine zm_geta (pc := 11) 55 34 (by decide) rfl q1588 dX10_givesBits_11 ?_
    refine zs_iload_n (pc := 14) 2 dX10_givesBits_14 rfl rfl ?_
    refine zm_iald (pc := 15) 55 34 zm_p55 dX10_givesBits_15 (fun x1 => ?_)
    refine zs_join (pc := 16) (fun (p2 : Int32) => M) 25 (fun (p2 : Int32) => [(0, .ref m), (1, .int p2), (2, .int t4.2)]) (fun (p2 : Int32) => []) (fun p2 => ?_) (fun h25 => ?_)
    · refine zs_iinc (pc := 25) (lv' := [(0, .ref m), (1, .int p2), (2, .int (t4.2 + 1))]) 2 [1, 2, 0] dX10_givesBits_25 rfl rfl (by decide) rfl ?_
      refine zs_goto (pc := 28) (tgt := 4) dX10_givesBits_28 (by decide) ?_
      exact hL4 (p2, (t4.2 + 1))
    · refine zs_if_le (pc := 16) (tgt := 25) dX10_givesBits_16 (by decide) ?_ ?_
      · refine zs_iload_n (pc := 19) 1 dX10_givesBits_19 rfl rfl ?_
        refine zs_iconst (pc := 20) (v := 1) dX10_givesBits_20 rfl ?_
        refine zs_iload_n (pc := 21) 2 dX10_givesBits_21 rfl rfl ?_
        refine zs_ishl (pc := 22) dX10_givesBits_22 ?_
        refine zs_ior (pc := 23) dX10_givesBits_23 ?_
        refine zs_nm (fun x3 => ?_)
        refine zs_istore_n (pc := 24) (lv' := [(0, .ref m), (1, .int x3), (2, .int t4.2)]) [1, 0, 2] dX10_givesBits_24 rfl (by decide) rfl ?_
        exact h25 x3
      · exact h25 t4.1
  · refine zs_iload_n (pc := 31) 1 dX10_givesBits_31 rfl rfl ?_
    exact zs_iret (pc := 32) dX10_givesBits_32 ((hR4 _).trans rfl) rfl rfl
theorem kv_isEnough : zs_mV RX10 yX10_isEnough cX10_isEnough 4 (some .boolean) 1 := ⟨q2144, qs127, q152, q2145, by decide, by decide +kernel⟩
def gm_isEnough_L4 (a1 : Int32) (M : zm_S) : (Int32 × Int32) → Option ((Int32 × Int32) ⊕ (Int32)) := fun t4 =>
if t4.2 < 6 then ((if ((zs_shr a1 t4.2) &&& 1) = 1 then ((zs_ald 6 (M.2.1 55) t4.2).bind fun x2 =>
(some (t4.1 + x2)).bind fun x3 =>
some x3)
else (some t4.1)).bind fun (p1 : Int32) =>
some (Sum.inl (p1, (t4.2 + 1))))
else (some (Sum.inr t4.1))
def gm_isEnough (M : zm_S) (a1 : Int32) : Option (Bool) :=
(zs_loop 5000 (gm_isEnough_L4 a1 M) (0, 0)).bind fun (r4 : Int32) =>
(zs_ald 2 (M.2.1 27) (M.1 18)).bind fun x5 =>
if r4 < x5 then (some false)
else (some true)
set_option maxHeartbeats 4000000 in
theorem km_isEnough (D : zs_D) (h0 : zs_AH) (m : Nat) (M : zm_S) (a1 : Int32) : zs_Con D (zm_R h0 m) zm_bd zs_eB yX10_isEnough cX10_isEnough 4 (some .boolean) 0 [.ref m, .int a1] M ((gm_isEnough M a1).map fun x => (x, M)) := by
  unfold gm_isEnough
  refine zs_conR (own := RX10) (nm := "isEnough") pl_X10 rfl rfl (Nat.le_of_ble_eq_true rfl) ?_
  refine zs_lv (lv' := [(0, .ref m), (1, .int a1)]) rfl ?_
  refine zs_iconst (pc := 0) (v := 0) dX10_isEnough_0 rfl ?_
  refine zs_istore_n (pc := 1) (lv' := [(0, .ref m), (1, .int a1), (2, .int 0)]) [1, 2, 0] dX10_isEnough_1 rfl (by decide) rfl ?_
  refine zs_iconst (pc := 2) (v := 0) dX10_isEnough_2 rfl ?_
  refine zs_istore_n (pc := 3) (lv' := [(0, .ref m), (1, .int a1), (2, .int 0), (3, .int 0)]) [1, 2, 3, 0] dX10_isEnough_3 rfl (by decide) rfl ?_
  refine zs_whileJ (pc := 4) (fun (t4 : Int32 × Int32) => M) (fun (t4 : Int32 × Int32) => [(0, .ref m), (1, .int a1), (2, .int t4.1), (3, .int t4.2)]) 5000 (0, 0) (fun (r4 : Int32) => M) 34 (fun (r4 : Int32) => [(0, .ref m), (2, .int r4)]) [] (fun r4 => ?_) (fun X4 hL4 hE4 t4 => ?_)
  · refine zs_iload_n (pc := 34) 1 dX10_isEnough_34 rfl rfl ?_
    refine zs_aload_n (pc := 35) 0 dX10_isEnough_35 rfl rfl ?_
    refine zm_geta (pc := 36) 27 13 (by decide) rfl q1560 dX10_isEnough_36 ?_
    refine zs_aload_n (pc := 39) 0 dX10_isEnough_39 rfl rfl ?_
    refine zm_geti (pc := 40) 18 (by decide) rfl q1551 dX10_isEnough_40 ?_
    refine zm_iald (pc := 43) 27 13 zm_p27 dX10_isEnough_43 (fun x5 => ?_)
    refine zs_icmp_lt (pc := 44) (tgt := 51) dX10_isEnough_44 (by decide) ?_ ?_
    · refine zs_iconst (pc := 51) (v := 0) dX10_isEnough_51 rfl ?_
      exact zs_iret (pc := 52) dX10_isEnough_52 rfl rfl rfl
    · refine zs_iconst (pc := 47) (v := 1) dX10_isEnough_47 rfl ?_
      refine zs_goto (pc := 48) (tgt := 52) dX10_isEnough_48 (by decide) ?_
      exact zs_iret (pc := 52) dX10_isEnough_52 rfl rfl rfl
  · unfold gm_isEnough_L4
    refine zs_iload_n (pc := 4) 3 dX10_isEnough_4 rfl rfl ?_
    refine zs_bipush (pc := 5) (v := 6) dX10_isEnough_5 (by decide) ?_
    refine zs_icmp_ge (pc := 7) (tgt := 34) dX10_isEnough_7 (by decide) ?_ ?_
    · refine zs_iload_n (pc := 10) 1 dX10_isEnough_10 rfl rfl ?_
      refine zs_iload_n (pc := 11) 3 dX10_isEnough_11 rfl rfl ?_
      refine zs_ishr (pc := 12) dX10_isEnough_12 ?_
      refine zs_iconst (pc := 13) (v := 1) dX10_isEnough_13 rfl ?_
      refine zs_iand (pc := 14) dX10_isEnough_14 ?_
      refine zs_iconst (pc := 15) (v := 1) dX10_isEnough_15 rfl ?_
      refine zs_join (pc := 16) (fun (p1 : Int32) => M) 28 (fun (p1 : Int32) => [(0, .ref m), (1, .int a1), (2, .int p1), (3, .int t4.2)]) (fun (p1 : Int32) => []) (fun p1 => ?_) (fun h28 => ?_)
      · refine zs_iinc (pc := 28) (lv' := [(0, .ref m), (1, .int a1), (2, .int p1), (3, .int (t4.2 + 1))]) 3 [1, 2, 3, 0] dX10_isEnough_28 rfl rfl (by decide) rfl ?_
        refine zs_goto (pc := 31) (tgt := 4) dX10_isEnough_31 (by decide) ?_
        exact hL4 (p1, (t4.2 + 1))
      · refine zs_icmp_ne (pc := 16) (tgt := 28) dX10_isEnough_16 (by decide) ?_ ?_
        · refine zs_iload_n (pc := 19) 2 dX10_isEnough_19 rfl rfl ?_
          refine zs_aload_n (pc := 20) 0 dX10_isEnough_20 rfl rfl ?_
          refine zm_geta (pc := 21) 55 34 (by decide) rfl q1588 dX10_isEnough_21 ?_
          refine zs_iload_n (pc := 24) 3 dX10_isEnough_24 rfl rfl ?_
          refine zm_iald (pc := 25) 55 34 zm_p55 dX10_isEnough_25 (fun x2 => ?_)
          refine zs_iadd (pc := 26) dX10_isEnough_26 ?_
          refine zs_nm (fun x3 => ?_)
          refine zs_istore_n (pc := 27) (lv' := [(0, .ref m), (1, .int a1), (2, .int x3), (3, .int t4.2)]) [1, 2, 0, 3] dX10_isEnough_27 rfl (by decide) rfl ?_
          exact h28 x3
        · exact h28 t4.1
    · refine zs_sub (lv' := [(0, .ref m), (2, .int t4.1)]) [0, 2] rfl ?_
      exact hE4 t4.1
theorem kv_givesCost : zs_mV RX10 yX10_givesCost cX10_givesCost 2 (some .int) 1 := ⟨q2148, qs128, q152, q2149, by decide, by decide +kernel⟩
def gm_givesCost (M : zm_S) (a1 : Int32) : Option (Int32 × zm_S) :=
(gm_hasPlait M a1).bind fun b1 =>
if b1 = true then (some (0, M))
else ((gm_costsOf M a1).bind fun p2 =>
some (p2.1, p2.2))
set_option maxHeartbeats 4000000 in
theorem km_givesCost (D : zs_D) (h0 : zs_AH) (m : Nat) (M : zm_S) (a1 : Int32) : zs_Con D (zm_R h0 m) zm_bd zs_eI yX10_givesCost cX10_givesCost 2 (some .int) 4 [.ref m, .int a1] M (gm_givesCost M a1) := by
  unfold gm_givesCost
  refine zs_con (own := RX10) (nm := "givesCost") pl_X10 rfl rfl (Nat.le_of_ble_eq_true rfl) ?_
  refine zs_lv (lv' := [(0, .ref m), (1, .int a1)]) rfl ?_
  refine zs_aload_n (pc := 0) 0 dX10_givesCost_0 rfl rfl ?_
  refine zs_iload_n (pc := 1) 1 dX10_givesCost_1 rfl rfl ?_
  refine zs_callVrB (pc := 2) [.int a1] [] (km_hasPlait D h0 m M a1) kv_hasPlait q1881 zc_X10 zm_recv dX10_givesCost_2 rfl rfl (Nat.le_of_ble_eq_true rfl) (Nat.le_of_ble_eq_true rfl) (fun b1 => ?_)
  refine zs_if_f (pc := 5) (tgt := 12) dX10_givesCost_5 (by decide) ?_ ?_
  · refine zs_iconst (pc := 8) (v := 0) dX10_givesCost_8 rfl ?_
    refine zs_goto (pc := 9) (tgt := 17) dX10_givesCost_9 (by decide) ?_
    exact zs_iret (pc := 17) dX10_givesCost_17 rfl rfl rfl
  · refine zs_aload_n (pc := 12) 0 dX10_givesCost_12 rfl rfl ?_
    refine zs_iload_n (pc := 13) 1 dX10_givesCost_13 rfl rfl ?_
    refine zs_callVwI (pc := 14) [.int a1] [] (km_costsOf D h0 m M a1) kv_costsOf q1916 zc_X10 zm_recv dX10_givesCost_14 rfl rfl (Nat.le_of_ble_eq_true rfl) (Nat.le_of_ble_eq_true rfl) (fun p2 => ?_)
    exact zs_iret (pc := 17) dX10_givesCost_17 rfl rfl rfl
theorem kv_hasOf : zs_mV RX10 yX10_hasOf cX10_hasOf 3 (some .int) 2 := ⟨q2140, qs126, q152, q2141, by decide, by decide +kernel⟩
def gm_hasOf (M : zm_S) (a1 : Int32) (a2 : Int32) : Option (Int32 × zm_S) :=
(gm_isEnough M a2).bind fun b1 =>
(if b1 = true then ((zs_ald 2 (M.2.1 28) (M.1 18)).bind fun x4 =>
some x4)
else (some 0)).bind fun (p2 : Int32) =>
if ((zs_shr a2 a1) &&& 1) = 1 then ((gm_givesCost M a1).bind fun p3 =>
some ((p2 - p3.1), p3.2))
else (some ((p2 - 0), M))
set_option maxHeartbeats 4000000 in
theorem km_hasOf (D : zs_D) (h0 : zs_AH) (m : Nat) (M : zm_S) (a1 : Int32) (a2 : Int32) : zs_Con D (zm_R h0 m) zm_bd zs_eI yX10_hasOf cX10_hasOf 3 (some .int) 5 [.ref m, .int a1, .int a2] M (gm_hasOf M a1 a2) := by
  unfold gm_hasOf
  refine zs_con (own := RX10) (nm := "hasOf") pl_X10 rfl rfl (Nat.le_of_ble_eq_true rfl) ?_
  refine zs_lv (lv' := [(0, .ref m), (1, .int a1), (2, .int a2)]) rfl ?_
  refine zs_aload_n (pc := 0) 0 dX10_hasOf_0 rfl rfl ?_
  refine zs_iload_n (pc := 1) 2 dX10_hasOf_1 rfl rfl ?_
  refine zs_callVrB (pc := 2) [.int a2] [] (km_isEnough D h0 m M a2) kv_isEnough q2142 zc_X10 zm_recv dX10_hasOf_2 rfl rfl (Nat.le_of_ble_eq_true rfl) (Nat.le_of_ble_eq_true rfl) (fun b1 => ?_)
  refine zs_join (pc := 5) (fun (p2 : Int32) => M) 21 (fun (p2 : Int32) => [(0, .ref m), (1, .int a1), (2, .int a2)]) (fun (p2 : Int32) => [.int p2]) (fun p2 => ?_) (fun h21 => ?_)
  · refine zs_iload_n (pc := 21) 2 dX10_hasOf_21 rfl rfl ?_
    refine zs_iload_n (pc := 22) 1 dX10_hasOf_22 rfl rfl ?_
    refine zs_ishr (pc := 23) dX10_hasOf_23 ?_
    refine zs_iconst (pc := 24) (v := 1) dX10_hasOf_24 rfl ?_
    refine zs_iand (pc := 25) dX10_hasOf_25 ?_
    refine zs_iconst (pc := 26) (v := 1) dX10_hasOf_26 rfl ?_
    refine zs_icmp_ne (pc := 27) (tgt := 38) dX10_hasOf_27 (by decide) ?_ ?_
    · refine zs_aload_n (pc := 30) 0 dX10_hasOf_30 rfl rfl ?_
      refine zs_iload_n (pc := 31) 1 dX10_hasOf_31 rfl rfl ?_
      refine zs_callVwI (pc := 32) [.int a1] [.int p2] (km_givesCost D h0 m M a1) kv_givesCost q2146 zc_X10 zm_recv dX10_hasOf_32 rfl rfl (Nat.le_of_ble_eq_true rfl) (Nat.le_of_ble_eq_true rfl) (fun p3 => ?_)
      refine zs_goto (pc := 35) (tgt := 39) dX10_hasOf_35 (by decide) ?_
      refine zs_isub (pc := 39) dX10_hasOf_39 ?_
      exact zs_iret (pc := 40) dX10_hasOf_40 rfl rfl rfl
    · refine zs_iconst (pc := 38) (v := 0) dX10_hasOf_38 rfl ?_
      refine zs_isub (pc := 39) dX10_hasOf_39 ?_
      exact zs_iret (pc := 40) dX10_hasOf_40 rfl rfl rfl
  · refine zs_if_f (pc := 5) (tgt := 20) dX10_hasOf_5 (by decide) ?_ ?_
    · refine zs_aload_n (pc := 8) 0 dX10_hasOf_8 rfl rfl ?_
      refine zm_geta (pc := 9) 28 14 (by decide) rfl q1561 dX10_hasOf_9 ?_
      refine zs_aload_n (pc := 12) 0 dX10_hasOf_12 rfl rfl ?_
      refine zm_geti (pc := 13) 18 (by decide) rfl q1551 dX10_hasOf_13 ?_
      refine zm_iald (pc := 16) 28 14 zm_p28 dX10_hasOf_16 (fun x4 => ?_)
      refine zs_goto (pc := 17) (tgt := 21) dX10_hasOf_17 (by decide) ?_
      exact h21 x4
    · refine zs_iconst (pc := 20) (v := 0) dX10_hasOf_20 rfl ?_
      exact h21 0
theorem kv_isRest : zs_mV RX10 yX10_isRest cX10_isRest 4 (some .boolean) 1 := ⟨q2136, qs125, q152, q2137, by decide, by decide +kernel⟩
def gm_isRest_L7 (x1 : Int32) (a1 : Int32) : (Int32 × zm_S) → Option ((Int32 × zm_S) ⊕ (Bool × zm_S)) := fun t7 =>
(zs_ald 2 (t7.2.2.1 22) (t7.2.1 18)).bind fun x2 =>
if t7.1 < x2 then (zs_let (fun (p3 : zm_S) => some (Sum.inl ((t7.1 + 1), p3))) fun J50 =>
if ((zs_shr x1 t7.1) &&& 1) = 1 then ((gm_hasOf t7.2 t7.1 (a1 ^^^ (zs_shl 1 t7.1))).bind fun p4 =>
(gm_hasOf p4.2 t7.1 a1).bind fun p5 =>
if p5.1 < p4.1 then (some (Sum.inr (false, p5.2)))
else (J50 p5.2))
else (J50 t7.2))
else (some (Sum.inr (true, t7.2)))
def gm_isRest (M : zm_S) (a1 : Int32) : Option (Bool × zm_S) :=
(gm_givesBits M).bind fun x1 =>
(zs_loop 5000 (gm_isRest_L7 x1 a1) (0, M)).bind fun z => some z
set_option maxHeartbeats 4000000 in
theorem km_isRest (D : zs_D) (h0 : zs_AH) (m : Nat) (M : zm_S) (a1 : Int32) : zs_Con D (zm_R h0 m) zm_bd zs_eB yX10_isRest cX10_isRest 4 (some .boolean) 6 [.ref m, .int a1] M (gm_isRest M a1) := by
  unfold gm_isRest
  refine zs_con (own := RX10) (nm := "isRest") pl_X10 rfl rfl (Nat.le_of_ble_eq_true rfl) ?_
  refine zs_lv (lv' := [(0, .ref m), (1, .int a1)]) rfl ?_
  refine zs_aload_n (pc := 0) 0 dX10_isRest_0 rfl rfl ?_
  refine zs_callVrI (pc := 1) [] [] (km_givesBits D h0 m M) kv_givesBits q2130 zc_X10 zm_recv dX10_isRest_1 rfl rfl (Nat.le_of_ble_eq_true rfl) (Nat.le_of_ble_eq_true rfl) (fun x1 => ?_)
  refine zs_istore_n (pc := 4) (lv' := [(0, .ref m), (1, .int a1), (2, .int x1)]) [1, 2, 0] dX10_isRest_4 rfl (by decide) rfl ?_
  refine zs_iconst (pc := 5) (v := 0) dX10_isRest_5 rfl ?_
  refine zs_istore_n (pc := 6) (lv' := [(0, .ref m), (1, .int a1), (2, .int x1), (3, .int 0)]) [1, 2, 3, 0] dX10_isRest_6 rfl (by decide) rfl ?_
  refine zs_whileX (pc := 7) (fun (t7 : Int32 × zm_S) => t7.2) (fun (t7 : Int32 × zm_S) => [(0, .ref m), (1, .int a1), (2, .int x1), (3, .int t7.1)]) 5000 (0, M) (fun X7 hL7 hR7 t7 => ?_)
  unfold gm_isRest_L7
  refine zs_iload_n (pc := 7) 3 dX10_isRest_7 rfl rfl ?_
  refine zs_aload_n (pc := 8) 0 dX10_isRest_8 rfl rfl ?_
  refine zm_geta (pc := 9) 22 8 (by decide) rfl q1555 dX10_isRest_9 ?_
  refine zs_aload_n (pc := 12) 0 dX10_isRest_12 rfl rfl ?_
  refine zm_geti (pc := 13) 18 (by decide) rfl q1551 dX10_isRest_13 ?_
  refine zm_iald (pc := 16) 22 8 zm_p22 dX10_isRest_16 (fun x2 => ?_)
  refine zs_icmp_ge (pc := 17) (tgt := 56) dX10_isRest_17 (by decide) ?_ ?_
  · refine zs_iload_n (pc := 20) 2 dX10_isRest_20 rfl rfl ?_
    refine zs_iload_n (pc := 21) 3 dX10_isRest_21 rfl rfl ?_
    refine zs_ishr (pc := 22) dX10_isRest_22 ?_
    refine zs_iconst (pc := 23) (v := 1) dX10_isRest_23 rfl ?_
    refine zs_iand (pc := 24) dX10_isRest_24 ?_
    refine zs_iconst (pc := 25) (v := 1) dX10_isRest_25 rfl ?_
    refine zs_letJ (pc := 26) (fun (p3 : zm_S) => p3) 50 (fun (p3 : zm_S) => [(0, .ref m), (1, .int a1), (2, .int x1), (3, .int t7.1)]) (fun (p3 : zm_S) => []) (fun p3 => ?_) (fun J50 h50 => ?_)
    · refine zs_iinc (pc := 50) (lv' := [(0, .ref m), (1, .int a1), (2, .int x1), (3, .int (t7.1 + 1))]) 3 [1, 2, 3, 0] dX10_isRest_50 rfl rfl (by decide) rfl ?_
      refine zs_goto (pc := 53) (tgt := 7) dX10_isRest_53 (by decide) ?_
      exact hL7 ((t7.1 + 1), p3)
    · refine zs_icmp_ne (pc := 26) (tgt := 50) dX10_isRest_26 (by decide) ?_ ?_
      · refine zs_aload_n (pc := 29) 0 dX10_isRest_29 rfl rfl ?_
        refine zs_iload_n (pc := 30) 3 dX10_isRest_30 rfl rfl ?_
        refine zs_iload_n (pc := 31) 1 dX10_isRest_31 rfl rfl ?_
        refine zs_iconst (pc := 32) (v := 1) dX10_isRest_32 rfl ?_
        refine zs_iload_n (pc := 33) 3 dX10_isRest_33 rfl rfl ?_
        refine zs_ishl (pc := 34) dX10_isRest_34 ?_
        refine zs_ixor (pc := 35) dX10_isRest_35 ?_
        refine zs_callVwI (pc := 36) [.int t7.1, .int (a1 ^^^ (zs_shl 1 t7.1))] [] (km_hasOf D h0 m t7.2 t7.1 (a1 ^^^ (zs_shl 1 t7.1))) kv_hasOf q2138 zc_X10 zm_recv dX10_isRest_36 rfl rfl (Nat.le_of_ble_eq_true rfl) (Nat.le_of_ble_eq_true rfl) (fun p4 => ?_)
        refine zs_aload_n (pc := 39) 0 dX10_isRest_39 rfl rfl ?_
        refine zs_iload_n (pc := 40) 3 dX10_isRest_40 rfl rfl ?_
        refine zs_iload_n (pc := 41) 1 dX10_isRest_41 rfl rfl ?_
        refine zs_callVwI (pc := 42) [.int t7.1, .int a1] [.int p4.1] (km_hasOf D h0 m p4.2 t7.1 a1) kv_hasOf q2138 zc_X10 zm_recv dX10_isRest_42 rfl rfl (Nat.le_of_ble_eq_true rfl) (Nat.le_of_ble_eq_true rfl) (fun p5 => ?_)
        refine zs_icmp_le (pc := 45) (tgt := 50) dX10_isRest_45 (by decide) ?_ ?_
        · refine zs_iconst (pc := 48) (v := 0) dX10_isRest_48 rfl ?_
          exact zs_iret (pc := 49) dX10_isRest_49 ((hR7 _).trans rfl) rfl rfl
        · exact h50 p5.2
      · exact h50 t7.2
  · refine zs_iconst (pc := 56) (v := 1) dX10_isRest_56 rfl ?_
    exact zs_iret (pc := 57) dX10_isRest_57 ((hR7 _).trans rfl) rfl rfl
theorem kv_bits : zs_mS yX10_bits cX10_bits 3 (some .int) 1 := ⟨q2151, q152, q2152, by decide, by decide +kernel⟩
def gm_bits_L4 (a0 : Int32) : (Int32 × Int32) → Option ((Int32 × Int32) ⊕ (Int32)) := fun t4 =>
if t4.2 < 6 then ((some (t4.1 + ((zs_shr a0 t4.2) &&& 1))).bind fun x1 =>
some (Sum.inl (x1, (t4.2 + 1))))
else (some (Sum.inr t4.1))
def gm_bits (a0 : Int32) : Option (Int32) :=
(zs_loop 5000 (gm_bits_L4 a0) (0, 0)).bind fun z => some z
set_option maxHeartbeats 4000000 in
theorem km_bits {σ : Type} (D : zs_D) (Rl : σ → zs_AH → Prop) (bd : σ → Nat × Nat) (M : σ) (a0 : Int32) : zs_Con D Rl bd zs_eI yX10_bits cX10_bits 3 (some .int) 0 [.int a0] M ((gm_bits a0).map fun x => (x, M)) := by
  unfold gm_bits
  refine zs_conR (own := RX10) (nm := "bits") pl_X10 rfl rfl (Nat.le_of_ble_eq_true rfl) ?_
  refine zs_lv (lv' := [(0, .int a0)]) rfl ?_
  refine zs_iconst (pc := 0) (v := 0) dX10_bits_0 rfl ?_
  refine zs_istore_n (pc := 1) (lv' := [(0, .int a0), (1, .int 0)]) [1, 0] dX10_bits_1 rfl (by decide) rfl ?_
  refine zs_iconst (pc := 2) (v := 0) dX10_bits_2 rfl ?_
  refine zs_istore_n (pc := 3) (lv' := [(0, .int a0), (1, .int 0), (2, .int 0)]) [1, 2, 0] dX10_bits_3 rfl (by decide) rfl ?_
  refine zs_whileX (pc := 4) (fun (t4 : Int32 × Int32) => M) (fun (t4 : Int32 × Int32) => [(0, .int a0), (1, .int t4.1), (2, .int t4.2)]) 5000 (0, 0) (fun X4 hL4 hR4 t4 => ?_)
  unfold gm_bits_L4
  refine zs_iload_n (pc := 4) 2 dX10_bits_4 rfl rfl ?_
  refine zs_bipush (pc := 5) (v := 6) dX10_bits_5 (by decide) ?_
  refine zs_icmp_ge (pc := 7) (tgt := 24) dX10_bits_7 (by decide) ?_ ?_
  · refine zs_iload_n (pc := 10) 1 dX10_bits_10 rfl rfl ?_
    refine zs_iload_n (pc := 11) 0 dX10_bits_11 rfl rfl ?_
    refine zs_iload_n (pc := 12) 2 dX10_bits_12 rfl rfl ?_
    refine zs_ishr (pc := 13) dX10_bits_13 ?_
    refine zs_iconst (pc := 14) (v := 1) dX10_bits_14 rfl ?_
    refine zs_iand (pc := 15) dX10_bits_15 ?_
    refine zs_iadd (pc := 16) dX10_bits_16 ?_
    refine zs_nm (fun x1 => ?_)
    refine zs_istore_n (pc := 17) (lv' := [(0, .int a0), (1, .int x1), (2, .int t4.2)]) [1, 0, 2] dX10_bits_17 rfl (by decide) rfl ?_
    refine zs_iinc (pc := 18) (lv' := [(0, .int a0), (1, .int x1), (2, .int (t4.2 + 1))]) 2 [1, 2, 0] dX10_bits_18 rfl rfl (by decide) rfl ?_
    refine zs_goto (pc := 21) (tgt := 4) dX10_bits_21 (by decide) ?_
    exact hL4 (x1, (t4.2 + 1))
  · refine zs_iload_n (pc := 24) 1 dX10_bits_24 rfl rfl ?_
    exact zs_iret (pc := 25) dX10_bits_25 ((hR4 _).trans rfl) rfl rfl
theorem kv_rests : zs_mV RX10 yX10_rests cX10_rests 5 (some .int) 1 := ⟨q2127, q2128, q152, q2129, by decide, by decide +kernel⟩
def gm_rests_L27 : (Int32 × Int32 × Int32 × zm_S) → Option ((Int32 × Int32 × Int32 × zm_S) ⊕ (Int32 × Int32 × zm_S)) := fun t27 =>
if t27.2.2.1 < 64 then ((gm_givesBits t27.2.2.2).bind fun x4 =>
(if (t27.2.2.1 &&& (x4 ^^^ (-1))) = 0 then ((gm_isRest t27.2.2.2 t27.2.2.1).bind fun p6 =>
if p6.1 = true then (zs_let (fun (p7 : Unit) => some ((t27.1 + 1), t27.2.2.1, p6.2)) fun J77 =>
if t27.2.1 < 0 then (J77 ())
else ((gm_bits t27.2.2.1).bind fun x8 =>
(gm_bits t27.2.1).bind fun x9 =>
if x8 < x9 then (J77 ())
else (some ((t27.1 + 1), t27.2.1, p6.2))))
else (some (t27.1, t27.2.1, p6.2)))
else (some (t27.1, t27.2.1, t27.2.2.2))).bind fun (p5 : Int32 × Int32 × zm_S) =>
some (Sum.inl (p5.1, p5.2.1, (t27.2.2.1 + 1), p5.2.2)))
else (some (Sum.inr (t27.1, t27.2.1, t27.2.2.2)))
def gm_rests (M : zm_S) (a1 : Int32) : Option (Int32 × zm_S) :=
(gm_in a1 0 1).bind fun b1 =>
if b1 = true then ((gm_copies M).bind fun M2 =>
(gm_fillsPlans M2).bind fun M3 =>
(zs_loop 5000 gm_rests_L27 (0, (-2), 0, M3)).bind fun (r10 : Int32 × Int32 × zm_S) =>
if a1 = 0 then (some (r10.1, r10.2.2))
else (some (r10.2.1, r10.2.2)))
else (some ((-1), M))
set_option maxHeartbeats 4000000 in
theorem km_rests (D : zs_D) (h0 : zs_AH) (m : Nat) (M : zm_S) (a1 : Int32) : zs_Con D (zm_R h0 m) zm_bd zs_eI yX10_rests cX10_rests 5 (some .int) 7 [.ref m, .int a1] M (gm_rests M a1) := by
  unfold gm_rests
  refine zs_con (own := RX10) (nm := "rests") pl_X10 rfl rfl (Nat.le_of_ble_eq_true rfl) ?_
  refine zs_lv (lv' := [(0, .ref m), (1, .int a1)]) rfl ?_
  refine zs_iload_n (pc := 0) 1 dX10_rests_0 rfl rfl ?_
  refine zs_iconst (pc := 1) (v := 0) dX10_rests_1 rfl ?_
  refine zs_iconst (pc := 2) (v := 1) dX10_rests_2 rfl ?_
  refine zs_callSrB (pc := 3) [.int a1, .int 0, .int 1] [] (km_in D _ _ M a1 0 1) kv_in q1870 dX10_rests_3 rfl rfl (Nat.le_of_ble_eq_true rfl) (Nat.le_of_ble_eq_true rfl) (fun b1 => ?_)
  refine zs_if_t (pc := 6) (tgt := 11) dX10_rests_6 (by decide) ?_ ?_
  · refine zs_aload_n (pc := 11) 0 dX10_rests_11 rfl rfl ?_
    refine zs_callVv (pc := 12) [] [] (km_copies D h0 m M) kv_copies q1873 zc_X10 zm_recv dX10_rests_12 rfl rfl (Nat.le_of_ble_eq_true rfl) (Nat.le_of_ble_eq_true rfl) (fun M2 => ?_)
    refine zs_aload_n (pc := 15) 0 dX10_rests_15 rfl rfl ?_
    refine zs_callVv (pc := 16) [] [] (km_fillsPlans D h0 m M2) kv_fillsPlans q2066 zc_X10 zm_recv dX10_rests_16 rfl rfl (Nat.le_of_ble_eq_true rfl) (Nat.le_of_ble_eq_true rfl) (fun M3 => ?_)
    refine zs_iconst (pc := 19) (v := 0) dX10_rests_19 rfl ?_
    refine zs_istore_n (pc := 20) (lv' := [(0, .ref m), (1, .int a1), (2, .int 0)]) [1, 2, 0] dX10_rests_20 rfl (by decide) rfl ?_
    refine zs_bipush (pc := 21) (v := (-2)) dX10_rests_21 (by decide) ?_
    refine zs_istore_n (pc := 23) (lv' := [(0, .ref m), (1, .int a1), (2, .int 0), (3, .int (-2))]) [1, 2, 3, 0] dX10_rests_23 rfl (by decide) rfl ?_
    refine zs_iconst (pc := 24) (v := 0) dX10_rests_24 rfl ?_
    refine zs_istore (pc := 25) (lv' := [(0, .ref m), (1, .int a1), (2, .int 0), (3, .int (-2)), (4, .int 0)]) [1, 2, 3, 4, 0] dX10_rests_25 (by decide) rfl ?_
    refine zs_whileJ (pc := 27) (fun (t27 : Int32 × Int32 × Int32 × zm_S) => t27.2.2.2) (fun (t27 : Int32 × Int32 × Int32 × zm_S) => [(0, .ref m), (1, .int a1), (2, .int t27.1), (3, .int t27.2.1), (4, .int t27.2.2.1)]) 5000 (0, (-2), 0, M3) (fun (r10 : Int32 × Int32 × zm_S) => r10.2.2) 86 (fun (r10 : Int32 × Int32 × zm_S) => [(1, .int a1), (2, .int r10.1), (3, .int r10.2.1)]) [] (fun r10 => ?_) (fun X27 hL27 hE27 t27 => ?_)
    · refine zs_iload_n (pc := 86) 0 dX10_rests_86 rfl rfl ?_
      refine zs_if_ne (pc := 87) (tgt := 94) dX10_rests_87 (by decide) ?_ ?_
      · refine zs_iload_n (pc := 90) 1 dX10_rests_90 rfl rfl ?_
        refine zs_goto (pc := 91) (tgt := 95) dX10_rests_91 (by decide) ?_
        exact zs_iret (pc := 95) dX10_rests_95 rfl rfl rfl
      · refine zs_iload_n (pc := 94) 2 dX10_rests_94 rfl rfl ?_
        exact zs_iret (pc := 95) dX10_rests_95 rfl rfl rfl
    · unfold gm_rests_L27
      refine zs_iload (pc := 27) 4 dX10_rests_27 rfl ?_
      refine zs_bipush (pc := 29) (v := 64) dX10_rests_29 (by decide) ?_
      refine zs_icmp_ge (pc := 31) (tgt := 86) dX10_rests_31 (by decide) ?_ ?_
      · refine zs_iload (pc := 34) 4 dX10_rests_34 rfl ?_
        refine zs_aload_n (pc := 36) 0 dX10_rests_36 rfl rfl ?_
        refine zs_callVrI (pc := 37) [] [.int t27.2.2.1] (km_givesBits D h0 m t27.2.2.2) kv_givesBits q2130 zc_X10 zm_recv dX10_rests_37 rfl rfl (Nat.le_of_ble_eq_true rfl) (Nat.le_of_ble_eq_true rfl) (fun x4 => ?_)
        refine zs_iconst (pc := 40) (v := (-1)) dX10_rests_40 rfl ?_
        refine zs_ixor (pc := 41) dX10_rests_41 ?_
        refine zs_iand (pc := 42) dX10_rests_42 ?_
        refine zs_join (pc := 43) (fun (p5 : Int32 × Int32 × zm_S) => p5.2.2) 80 (fun (p5 : Int32 × Int32 × zm_S) => [(0, .ref m), (1, .int a1), (2, .int p5.1), (3, .int p5.2.1), (4, .int t27.2.2.1)]) (fun (p5 : Int32 × Int32 × zm_S) => []) (fun p5 => ?_) (fun h80 => ?_)
        · refine zs_iinc (pc := 80) (lv' := [(0, .ref m), (1, .int a1), (2, .int p5.1), (3, .int p5.2.1), (4, .int (t27.2.2.1 + 1))]) 4 [1, 2, 3, 4, 0] dX10_rests_80 rfl rfl (by decide) rfl ?_
          refine zs_goto (pc := 83) (tgt := 27) dX10_rests_83 (by decide) ?_
          exact hL27 (p5.1, p5.2.1, (t27.2.2.1 + 1), p5.2.2)
        · refine zs_if_ne (pc := 43) (tgt := 80) dX10_rests_43 (by decide) ?_ ?_
          · refine zs_aload_n (pc := 46) 0 dX10_rests_46 rfl rfl ?_
            refine zs_iload (pc := 47) 4 dX10_rests_47 rfl ?_
            refine zs_callVwB (pc := 49) [.int t27.2.2.1] [] (km_isRest D h0 m t27.2.2.2 t27.2.2.1) kv_isRest q2134 zc_X10 zm_recv dX10_rests_49 rfl rfl (Nat.le_of_ble_eq_true rfl) (Nat.le_of_ble_eq_true rfl) (fun p6 => ?_)
            refine zs_if_t (pc := 52) (tgt := 58) dX10_rests_52 (by decide) ?_ ?_
            · refine zs_iinc (pc := 58) (lv' := [(0, .ref m), (1, .int a1), (2, .int (t27.1 + 1)), (3, .int t27.2.1), (4, .int t27.2.2.1)]) 2 [1, 2, 0, 3, 4] dX10_rests_58 rfl rfl (by decide) rfl ?_
              refine zs_iload_n (pc := 61) 3 dX10_rests_61 rfl rfl ?_
              refine zs_letJ (pc := 62) (fun (p7 : Unit) => p6.2) 77 (fun (p7 : Unit) => [(0, .ref m), (1, .int a1), (2, .int (t27.1 + 1)), (4, .int t27.2.2.1)]) (fun (p7 : Unit) => []) (fun p7 => ?_) (fun J77 h77 => ?_)
              · refine zs_iload (pc := 77) 3 dX10_rests_77 rfl ?_
                refine zs_istore_n (pc := 79) (lv' := [(0, .ref m), (1, .int a1), (2, .int (t27.1 + 1)), (3, .int t27.2.2.1), (4, .int t27.2.2.1)]) [1, 2, 3, 0, 4] dX10_rests_79 rfl (by decide) rfl ?_
                exact h80 ((t27.1 + 1), t27.2.2.1, p6.2)
              · refine zs_if_lt (pc := 62) (tgt := 77) dX10_rests_62 (by decide) ?_ ?_
                · refine zs_sub (lv' := [(0, .ref m), (1, .int a1), (2, .int (t27.1 + 1)), (4, .int t27.2.2.1)]) [0, 1, 2, 4] rfl ?_
                  exact h77 ()
                · refine zs_iload (pc := 65) 4 dX10_rests_65 rfl ?_
                  refine zs_callSrI (pc := 67) [.int t27.2.2.1] [] (km_bits D _ _ p6.2 t27.2.2.1) kv_bits q2150 dX10_rests_67 rfl rfl (Nat.le_of_ble_eq_true rfl) (Nat.le_of_ble_eq_true rfl) (fun x8 => ?_)
                  refine zs_iload_n (pc := 70) 3 dX10_rests_70 rfl rfl ?_
                  refine zs_callSrI (pc := 71) [.int t27.2.1] [.int x8] (km_bits D _ _ p6.2 t27.2.1) kv_bits q2150 dX10_rests_71 rfl rfl (Nat.le_of_ble_eq_true rfl) (Nat.le_of_ble_eq_true rfl) (fun x9 => ?_)
                  refine zs_icmp_ge (pc := 74) (tgt := 80) dX10_rests_74 (by decide) ?_ ?_
                  · refine zs_sub (lv' := [(0, .ref m), (1, .int a1), (2, .int (t27.1 + 1)), (4, .int t27.2.2.1)]) [0, 1, 2, 4] rfl ?_
                    exact h77 ()
                  · exact h80 ((t27.1 + 1), t27.2.1, p6.2)
            · refine zs_goto (pc := 55) (tgt := 80) dX10_rests_55 (by decide) ?_
              exact h80 (t27.1, t27.2.1, p6.2)
          · exact h80 (t27.1, t27.2.1, t27.2.2.2)
      · refine zs_sub (lv' := [(1, .int a1), (2, .int t27.1), (3, .int t27.2.1)]) [1, 2, 3] rfl ?_
        exact hE27 (t27.1, t27.2.1, t27.2.2.2)
  · refine zs_iconst (pc := 9) (v := (-1)) dX10_rests_9 rfl ?_
    exact zs_iret (pc := 10) dX10_rests_10 rfl rfl rfl
theorem kv_pivots : zs_mV RX10 yX10_pivots cX10_pivots 3 (some .int) 0 := ⟨q2154, q2155, q152, q2156, by decide, by decide +kernel⟩
def gm_pivots_L12 (M2 : zm_S) : (Int32 × Int32) → Option ((Int32 × Int32) ⊕ (Int32 × zm_S)) := fun t12 =>
(zs_ald 2 (M2.2.1 22) (M2.1 18)).bind fun x3 =>
if t12.2 < x3 then ((gm_givesBits M2).bind fun x4 =>
(gm_isEnough M2 (x4 &&& ((zs_shl 1 t12.2) ^^^ (-1)))).bind fun b5 =>
(if b5 = true then (some t12.1)
else ((some (t12.1 ||| (zs_shl 1 t12.2))).bind fun x7 =>
some x7)).bind fun (p6 : Int32) =>
some (Sum.inl (p6, (t12.2 + 1))))
else (some (Sum.inr (t12.1, M2)))
def gm_pivots (M : zm_S) : Option (Int32 × zm_S) :=
(gm_copies M).bind fun M1 =>
(gm_fillsPlans M1).bind fun M2 =>
(zs_loop 5000 (gm_pivots_L12 M2) (0, 0)).bind fun z => some z
set_option maxHeartbeats 4000000 in
theorem km_pivots (D : zs_D) (h0 : zs_AH) (m : Nat) (M : zm_S) : zs_Con D (zm_R h0 m) zm_bd zs_eI yX10_pivots cX10_pivots 3 (some .int) 6 [.ref m] M (gm_pivots M) := by
  unfold gm_pivots
  refine zs_con (own := RX10) (nm := "pivots") pl_X10 rfl rfl (Nat.le_of_ble_eq_true rfl) ?_
  refine zs_lv (lv' := [(0, .ref m)]) rfl ?_
  refine zs_aload_n (pc := 0) 0 dX10_pivots_0 rfl rfl ?_
  refine zs_callVv (pc := 1) [] [] (km_copies D h0 m M) kv_copies q1873 zc_X10 zm_recv dX10_pivots_1 rfl rfl (Nat.le_of_ble_eq_true rfl) (Nat.le_of_ble_eq_true rfl) (fun M1 => ?_)
  refine zs_aload_n (pc := 4) 0 dX10_pivots_4 rfl rfl ?_
  refine zs_callVv (pc := 5) [] [] (km_fillsPlans D h0 m M1) kv_fillsPlans q2066 zc_X10 zm_recv dX10_pivots_5 rfl rfl (Nat.le_of_ble_eq_true rfl) (Nat.le_of_ble_eq_true rfl) (fun M2 => ?_)
  refine zs_iconst (pc := 8) (v := 0) dX10_pivots_8 rfl ?_
  refine zs_istore_n (pc := 9) (lv' := [(0, .ref m), (1, .int 0)]) [1, 0] dX10_pivots_9 rfl (by decide) rfl ?_
  refine zs_iconst (pc := 10) (v := 0) dX10_pivots_10 rfl ?_
  refine zs_istore_n (pc := 11) (lv' := [(0, .ref m), (1, .int 0), (2, .int 0)]) [1, 2, 0] dX10_pivots_11 rfl (by decide) rfl ?_
  refine zs_whileX (pc := 12) (fun (t12 : Int32 × Int32) => M2) (fun (t12 : Int32 × Int32) => [(0, .ref m), (1, .int t12.1), (2, .int t12.2)]) 5000 (0, 0) (fun X12 hL12 hR12 t12 => ?_)
  unfold gm_pivots_L12
  refine zs_iload_n (pc := 12) 2 dX10_pivots_12 rfl rfl ?_
  refine zs_aload_n (pc := 13) 0 dX10_pivots_13 rfl rfl ?_
  refine zm_geta (pc := 14) 22 8 (by decide) rfl q1555 dX10_pivots_14 ?_
  refine zs_aload_n (pc := 17) 0 dX10_pivots_17 rfl rfl ?_
  refine zm_geti (pc := 18) 18 (by decide) rfl q1551 dX10_pivots_18 ?_
  refine zm_iald (pc := 21) 22 8 zm_p22 dX10_pivots_21 (fun x3 => ?_)
  refine zs_icmp_ge (pc := 22) (tgt := 54) dX10_pivots_22 (by decide) ?_ ?_
  · refine zs_aload_n (pc := 25) 0 dX10_pivots_25 rfl rfl ?_
    refine zs_aload_n (pc := 26) 0 dX10_pivots_26 rfl rfl ?_
    refine zs_callVrI (pc := 27) [] [.ref m] (km_givesBits D h0 m M2) kv_givesBits q2130 zc_X10 zm_recv dX10_pivots_27 rfl rfl (Nat.le_of_ble_eq_true rfl) (Nat.le_of_ble_eq_true rfl) (fun x4 => ?_)
    refine zs_iconst (pc := 30) (v := 1) dX10_pivots_30 rfl ?_
    refine zs_iload_n (pc := 31) 2 dX10_pivots_31 rfl rfl ?_
    refine zs_ishl (pc := 32) dX10_pivots_32 ?_
    refine zs_iconst (pc := 33) (v := (-1)) dX10_pivots_33 rfl ?_
    refine zs_ixor (pc := 34) dX10_pivots_34 ?_
    refine zs_iand (pc := 35) dX10_pivots_35 ?_
    refine zs_callVrB (pc := 36) [.int (x4 &&& ((zs_shl 1 t12.2) ^^^ (-1)))] [] (km_isEnough D h0 m M2 (x4 &&& ((zs_shl 1 t12.2) ^^^ (-1)))) kv_isEnough q2142 zc_X10 zm_recv dX10_pivots_36 rfl rfl (Nat.le_of_ble_eq_true rfl) (Nat.le_of_ble_eq_true rfl) (fun b5 => ?_)
    refine zs_join (pc := 39) (fun (p6 : Int32) => M2) 48 (fun (p6 : Int32) => [(0, .ref m), (1, .int p6), (2, .int t12.2)]) (fun (p6 : Int32) => []) (fun p6 => ?_) (fun h48 => ?_)
    · refine zs_iinc (pc := 48) (lv' := [(0, .ref m), (1, .int p6), (2, .int (t12.2 + 1))]) 2 [1, 2, 0] dX10_pivots_48 rfl rfl (by decide) rfl ?_
      refine zs_goto (pc := 51) (tgt := 12) dX10_pivots_51 (by decide) ?_
      exact hL12 (p6, (t12.2 + 1))
    · refine zs_if_t (pc := 39) (tgt := 48) dX10_pivots_39 (by decide) ?_ ?_
      · exact h48 t12.1
      · refine zs_iload_n (pc := 42) 1 dX10_pivots_42 rfl rfl ?_
        refine zs_iconst (pc := 43) (v := 1) dX10_pivots_43 rfl ?_
        refine zs_iload_n (pc := 44) 2 dX10_pivots_44 rfl rfl ?_
        refine zs_ishl (pc := 45) dX10_pivots_45 ?_
        refine zs_ior (pc := 46) dX10_pivots_46 ?_
        refine zs_nm (fun x7 => ?_)
        refine zs_istore_n (pc := 47) (lv' := [(0, .ref m), (1, .int x7), (2, .int t12.2)]) [1, 0, 2] dX10_pivots_47 rfl (by decide) rfl ?_
        exact h48 x7
  · refine zs_iload_n (pc := 54) 1 dX10_pivots_54 rfl rfl ?_
    exact zs_iret (pc := 55) dX10_pivots_55 ((hR12 _).trans rfl) rfl rfl
theorem kv_harvestOf : zs_mV RX10 yX10_harvestOf cX10_harvestOf 6 (some .int) 3 := ⟨q2163, qs129, q152, q2164, by decide, by decide +kernel⟩
def gm_harvestOf_L10 (a2 : Int32) (a3 : Int32) (a1 : Int32) : (Int32 × Int32 × zm_S) → Option ((Int32 × Int32 × zm_S) ⊕ (Int32 × zm_S)) := fun t10 =>
if a2 < t10.2.1 then (some (Sum.inr (t10.1, t10.2.2)))
else ((gm_yearGoes t10.2.2).bind fun M2 =>
(zs_mod t10.2.1 a3).bind fun x3 =>
(zs_let (fun (p5 : Unit) => (zs_ald 33 (M2.2.1 48) a1).bind fun x6 =>
(some (t10.1 + x6)).bind fun x7 =>
(zs_ast 33 a1 (zm_sA M2 48 a1 0)).bind fun M8 =>
some (x7, M8)) fun J36 =>
if 0 < x3 then (if t10.2.1 < a2 then (some (t10.1, M2))
else (J36 ()))
else (J36 ())).bind fun (p4 : Int32 × zm_S) =>
some (Sum.inl (p4.1, (t10.2.1 + 1), p4.2)))
def gm_harvestOf (M : zm_S) (a1 : Int32) (a2 : Int32) (a3 : Int32) : Option (Int32 × zm_S) :=
(gm_copiesStill M).bind fun M1 =>
(zs_loop 5000 (gm_harvestOf_L10 a2 a3 a1) (0, 1, M1)).bind fun z => some z
set_option maxHeartbeats 4000000 in
theorem km_harvestOf (D : zs_D) (h0 : zs_AH) (m : Nat) (M : zm_S) (a1 : Int32) (a2 : Int32) (a3 : Int32) : zs_Con D (zm_R h0 m) zm_bd zs_eI yX10_harvestOf cX10_harvestOf 6 (some .int) 5 [.ref m, .int a1, .int a2, .int a3] M (gm_harvestOf M a1 a2 a3) := by
  unfold gm_harvestOf
  refine zs_con (own := RX10) (nm := "harvestOf") pl_X10 rfl rfl (Nat.le_of_ble_eq_true rfl) ?_
  refine zs_lv (lv' := [(0, .ref m), (1, .int a1), (2, .int a2), (3, .int a3)]) rfl ?_
  refine zs_aload_n (pc := 0) 0 dX10_harvestOf_0 rfl rfl ?_
  refine zs_callVv (pc := 1) [] [] (km_copiesStill D h0 m M) kv_copiesStill q2042 zc_X10 zm_recv dX10_harvestOf_1 rfl rfl (Nat.le_of_ble_eq_true rfl) (Nat.le_of_ble_eq_true rfl) (fun M1 => ?_)
  refine zs_iconst (pc := 4) (v := 0) dX10_harvestOf_4 rfl ?_
  refine zs_istore (pc := 5) (lv' := [(0, .ref m), (1, .int a1), (2, .int a2), (3, .int a3), (4, .int 0)]) [1, 2, 3, 4, 0] dX10_harvestOf_5 (by decide) rfl ?_
  refine zs_iconst (pc := 7) (v := 1) dX10_harvestOf_7 rfl ?_
  refine zs_istore (pc := 8) (lv' := [(0, .ref m), (1, .int a1), (2, .int a2), (3, .int a3), (4, .int 0), (5, .int 1)]) [1, 2, 3, 4, 5, 0] dX10_harvestOf_8 (by decide) rfl ?_
  refine zs_whileX (pc := 10) (fun (t10 : Int32 × Int32 × zm_S) => t10.2.2) (fun (t10 : Int32 × Int32 × zm_S) => [(0, .ref m), (1, .int a1), (2, .int a2), (3, .int a3), (4, .int t10.1), (5, .int t10.2.1)]) 5000 (0, 1, M1) (fun X10 hL10 hR10 t10 => ?_)
  unfold gm_harvestOf_L10
  refine zs_iload (pc := 10) 5 dX10_harvestOf_10 rfl ?_
  refine zs_iload_n (pc := 12) 2 dX10_harvestOf_12 rfl rfl ?_
  refine zs_icmp_gt (pc := 13) (tgt := 60) dX10_harvestOf_13 (by decide) ?_ ?_
  · refine zs_iload (pc := 60) 4 dX10_harvestOf_60 rfl ?_
    exact zs_iret (pc := 62) dX10_harvestOf_62 ((hR10 _).trans rfl) rfl rfl
  · refine zs_aload_n (pc := 16) 0 dX10_harvestOf_16 rfl rfl ?_
    refine zs_callVv (pc := 17) [] [] (km_yearGoes D h0 m t10.2.2) kv_yearGoes q1998 zc_X10 zm_recv dX10_harvestOf_17 rfl rfl (Nat.le_of_ble_eq_true rfl) (Nat.le_of_ble_eq_true rfl) (fun M2 => ?_)
    refine zs_iload (pc := 20) 5 dX10_harvestOf_20 rfl ?_
    refine zs_iload_n (pc := 22) 3 dX10_harvestOf_22 rfl rfl ?_
    refine zs_irem (pc := 23) dX10_harvestOf_23 (fun x3 => ?_)
    refine zs_join (pc := 24) (fun (p4 : Int32 × zm_S) => p4.2) 54 (fun (p4 : Int32 × zm_S) => [(0, .ref m), (1, .int a1), (2, .int a2), (3, .int a3), (4, .int p4.1), (5, .int t10.2.1)]) (fun (p4 : Int32 × zm_S) => []) (fun p4 => ?_) (fun h54 => ?_)
    · refine zs_iinc (pc := 54) (lv' := [(0, .ref m), (1, .int a1), (2, .int a2), (3, .int a3), (4, .int p4.1), (5, .int (t10.2.1 + 1))]) 5 [1, 2, 3, 4, 5, 0] dX10_harvestOf_54 rfl rfl (by decide) rfl ?_
      refine zs_goto (pc := 57) (tgt := 10) dX10_harvestOf_57 (by decide) ?_
      exact hL10 (p4.1, (t10.2.1 + 1), p4.2)
    · refine zs_letJ (pc := 24) (fun (p5 : Unit) => M2) 36 (fun (p5 : Unit) => [(0, .ref m), (1, .int a1), (2, .int a2), (3, .int a3), (4, .int t10.1), (5, .int t10.2.1)]) (fun (p5 : Unit) => []) (fun p5 => ?_) (fun J36 h36 => ?_)
      · refine zs_iload (pc := 36) 4 dX10_harvestOf_36 rfl ?_
        refine zs_aload_n (pc := 38) 0 dX10_harvestOf_38 rfl rfl ?_
        refine zm_geta (pc := 39) 48 30 (by decide) rfl q1581 dX10_harvestOf_39 ?_
        refine zs_iload_n (pc := 42) 1 dX10_harvestOf_42 rfl rfl ?_
        refine zm_iald (pc := 43) 48 30 zm_p48 dX10_harvestOf_43 (fun x6 => ?_)
        refine zs_iadd (pc := 44) dX10_harvestOf_44 ?_
        refine zs_nm (fun x7 => ?_)
        refine zs_istore (pc := 45) (lv' := [(0, .ref m), (1, .int a1), (2, .int a2), (3, .int a3), (4, .int x7), (5, .int t10.2.1)]) [1, 2, 3, 4, 0, 5] dX10_harvestOf_45 (by decide) rfl ?_
        refine zs_aload_n (pc := 47) 0 dX10_harvestOf_47 rfl rfl ?_
        refine zm_geta (pc := 48) 48 30 (by decide) rfl q1581 dX10_harvestOf_48 ?_
        refine zs_iload_n (pc := 51) 1 dX10_harvestOf_51 rfl rfl ?_
        refine zs_iconst (pc := 52) (v := 0) dX10_harvestOf_52 rfl ?_
        refine zm_iast (pc := 53) 48 30 zm_p48 dX10_harvestOf_53 (fun M8 => ?_)
        exact h54 (x7, M8)
      · refine zs_if_le (pc := 24) (tgt := 36) dX10_harvestOf_24 (by decide) ?_ ?_
        · refine zs_iload (pc := 27) 5 dX10_harvestOf_27 rfl ?_
          refine zs_iload_n (pc := 29) 2 dX10_harvestOf_29 rfl rfl ?_
          refine zs_icmp_ge (pc := 30) (tgt := 36) dX10_harvestOf_30 (by decide) ?_ ?_
          · refine zs_goto (pc := 33) (tgt := 54) dX10_harvestOf_33 (by decide) ?_
            exact h54 (t10.1, M2)
          · exact h36 ()
        · exact h36 ()
theorem kv_harvest : zs_mV RX10 yX10_harvest cX10_harvest 8 (some .int) 3 := ⟨q2158, q2159, q152, q2160, by decide, by decide +kernel⟩
def gm_harvest_L38 (a2 : Int32) (a1 : Int32) : (Int32 × Int32 × Int32 × zm_S) → Option ((Int32 × Int32 × Int32 × zm_S) ⊕ (Int32 × Int32 × zm_S)) := fun t38 =>
if a2 < t38.2.2.1 then (some (Sum.inr (t38.1, t38.2.1, t38.2.2.2)))
else ((gm_harvestOf t38.2.2.2 a1 a2 t38.2.2.1).bind fun p4 =>
(if t38.2.1 < p4.1 then (some (t38.2.2.1, p4.1))
else (some (t38.1, t38.2.1))).bind fun (p5 : Int32 × Int32) =>
some (Sum.inl (p5.1, p5.2, (t38.2.2.1 + 1), p4.2)))
def gm_harvest (M : zm_S) (a1 : Int32) (a2 : Int32) (a3 : Int32) : Option (Int32 × zm_S) :=
(gm_isHouse M a1).bind fun b1 =>
if b1 = true then ((gm_in a2 1 60).bind fun b2 =>
if b2 = true then ((gm_in a3 0 1).bind fun b3 =>
if b3 = true then ((zs_loop 5000 (gm_harvest_L38 a2 a1) (0, (-1), 1, M)).bind fun (r6 : Int32 × Int32 × zm_S) =>
if a3 = 0 then (some (r6.1, r6.2.2))
else (some (r6.2.1, r6.2.2)))
else (some ((-1), M)))
else (some ((-1), M)))
else (some ((-1), M))
set_option maxHeartbeats 4000000 in
theorem km_harvest (D : zs_D) (h0 : zs_AH) (m : Nat) (M : zm_S) (a1 : Int32) (a2 : Int32) (a3 : Int32) : zs_Con D (zm_R h0 m) zm_bd zs_eI yX10_harvest cX10_harvest 8 (some .int) 6 [.ref m, .int a1, .int a2, .int a3] M (gm_harvest M a1 a2 a3) := by
  unfold gm_harvest
  refine zs_con (own := RX10) (nm := "harvest") pl_X10 rfl rfl (Nat.le_of_ble_eq_true rfl) ?_
  refine zs_lv (lv' := [(0, .ref m), (1, .int a1), (2, .int a2), (3, .int a3)]) rfl ?_
  refine zs_aload_n (pc := 0) 0 dX10_harvest_0 rfl rfl ?_
  refine zs_iload_n (pc := 1) 1 dX10_harvest_1 rfl rfl ?_
  refine zs_callVrB (pc := 2) [.int a1] [] (km_isHouse D h0 m M a1) kv_isHouse q1866 zc_X10 zm_recv dX10_harvest_2 rfl rfl (Nat.le_of_ble_eq_true rfl) (Nat.le_of_ble_eq_true rfl) (fun b1 => ?_)
  refine zs_if_f (pc := 5) (tgt := 27) dX10_harvest_5 (by decide) ?_ ?_
  · refine zs_iload_n (pc := 8) 2 dX10_harvest_8 rfl rfl ?_
    refine zs_iconst (pc := 9) (v := 1) dX10_harvest_9 rfl ?_
    refine zs_bipush (pc := 10) (v := 60) dX10_harvest_10 (by decide) ?_
    refine zs_callSrB (pc := 12) [.int a2, .int 1, .int 60] [] (km_in D _ _ M a2 1 60) kv_in q1870 dX10_harvest_12 rfl rfl (Nat.le_of_ble_eq_true rfl) (Nat.le_of_ble_eq_true rfl) (fun b2 => ?_)
    refine zs_if_f (pc := 15) (tgt := 27) dX10_harvest_15 (by decide) ?_ ?_
    · refine zs_iload_n (pc := 18) 3 dX10_harvest_18 rfl rfl ?_
      refine zs_iconst (pc := 19) (v := 0) dX10_harvest_19 rfl ?_
      refine zs_iconst (pc := 20) (v := 1) dX10_harvest_20 rfl ?_
      refine zs_callSrB (pc := 21) [.int a3, .int 0, .int 1] [] (km_in D _ _ M a3 0 1) kv_in q1870 dX10_harvest_21 rfl rfl (Nat.le_of_ble_eq_true rfl) (Nat.le_of_ble_eq_true rfl) (fun b3 => ?_)
      refine zs_if_t (pc := 24) (tgt := 29) dX10_harvest_24 (by decide) ?_ ?_
      · refine zs_iconst (pc := 29) (v := 0) dX10_harvest_29 rfl ?_
        refine zs_istore (pc := 30) (lv' := [(0, .ref m), (1, .int a1), (2, .int a2), (3, .int a3), (4, .int 0)]) [1, 2, 3, 4, 0] dX10_harvest_30 (by decide) rfl ?_
        refine zs_iconst (pc := 32) (v := (-1)) dX10_harvest_32 rfl ?_
        refine zs_istore (pc := 33) (lv' := [(0, .ref m), (1, .int a1), (2, .int a2), (3, .int a3), (4, .int 0), (5, .int (-1))]) [1, 2, 3, 4, 5, 0] dX10_harvest_33 (by decide) rfl ?_
        refine zs_iconst (pc := 35) (v := 1) dX10_harvest_35 rfl ?_
        refine zs_istore (pc := 36) (lv' := [(0, .ref m), (1, .int a1), (2, .int a2), (3, .int a3), (4, .int 0), (5, .int (-1)), (6, .int 1)]) [1, 2, 3, 4, 5, 6, 0] dX10_harvest_36 (by decide) rfl ?_
        refine zs_whileJ (pc := 38) (fun (t38 : Int32 × Int32 × Int32 × zm_S) => t38.2.2.2) (fun (t38 : Int32 × Int32 × Int32 × zm_S) => [(0, .ref m), (1, .int a1), (2, .int a2), (3, .int a3), (4, .int t38.1), (5, .int t38.2.1), (6, .int t38.2.2.1)]) 5000 (0, (-1), 1, M) (fun (r6 : Int32 × Int32 × zm_S) => r6.2.2) 78 (fun (r6 : Int32 × Int32 × zm_S) => [(3, .int a3), (4, .int r6.1), (5, .int r6.2.1)]) [] (fun r6 => ?_) (fun X38 hL38 hE38 t38 => ?_)
        · refine zs_iload_n (pc := 78) 0 dX10_harvest_78 rfl rfl ?_
          refine zs_if_ne (pc := 79) (tgt := 87) dX10_harvest_79 (by decide) ?_ ?_
          · refine zs_iload (pc := 82) 1 dX10_harvest_82 rfl ?_
            refine zs_goto (pc := 84) (tgt := 89) dX10_harvest_84 (by decide) ?_
            exact zs_iret (pc := 89) dX10_harvest_89 rfl rfl rfl
          · refine zs_iload (pc := 87) 2 dX10_harvest_87 rfl ?_
            exact zs_iret (pc := 89) dX10_harvest_89 rfl rfl rfl
        · unfold gm_harvest_L38
          refine zs_iload (pc := 38) 6 dX10_harvest_38 rfl ?_
          refine zs_iload_n (pc := 40) 2 dX10_harvest_40 rfl rfl ?_
          refine zs_icmp_gt (pc := 41) (tgt := 78) dX10_harvest_41 (by decide) ?_ ?_
          · refine zs_sub (lv' := [(3, .int a3), (4, .int t38.1), (5, .int t38.2.1)]) [3, 4, 5] rfl ?_
            exact hE38 (t38.1, t38.2.1, t38.2.2.2)
          · refine zs_aload_n (pc := 44) 0 dX10_harvest_44 rfl rfl ?_
            refine zs_iload_n (pc := 45) 1 dX10_harvest_45 rfl rfl ?_
            refine zs_iload_n (pc := 46) 2 dX10_harvest_46 rfl rfl ?_
            refine zs_iload (pc := 47) 6 dX10_harvest_47 rfl ?_
            refine zs_callVwI (pc := 49) [.int a1, .int a2, .int t38.2.2.1] [] (km_harvestOf D h0 m t38.2.2.2 a1 a2 t38.2.2.1) kv_harvestOf q2161 zc_X10 zm_recv dX10_harvest_49 rfl rfl (Nat.le_of_ble_eq_true rfl) (Nat.le_of_ble_eq_true rfl) (fun p4 => ?_)
            refine zs_istore (pc := 52) (lv' := [(0, .ref m), (1, .int a1), (2, .int a2), (3, .int a3), (4, .int t38.1), (5, .int t38.2.1), (6, .int t38.2.2.1), (7, .int p4.1)]) [1, 2, 3, 4, 5, 6, 7, 0] dX10_harvest_52 (by decide) rfl ?_
            refine zs_iload (pc := 54) 7 dX10_harvest_54 rfl ?_
            refine zs_iload (pc := 56) 5 dX10_harvest_56 rfl ?_
            refine zs_join (pc := 58) (fun (p5 : Int32 × Int32) => p4.2) 72 (fun (p5 : Int32 × Int32) => [(0, .ref m), (1, .int a1), (2, .int a2), (3, .int a3), (4, .int p5.1), (5, .int p5.2), (6, .int t38.2.2.1)]) (fun (p5 : Int32 × Int32) => []) (fun p5 => ?_) (fun h72 => ?_)
            · refine zs_iinc (pc := 72) (lv' := [(0, .ref m), (1, .int a1), (2, .int a2), (3, .int a3), (4, .int p5.1), (5, .int p5.2), (6, .int (t38.2.2.1 + 1))]) 6 [1, 2, 3, 4, 5, 6, 0] dX10_harvest_72 rfl rfl (by decide) rfl ?_
              refine zs_goto (pc := 75) (tgt := 38) dX10_harvest_75 (by decide) ?_
              exact hL38 (p5.1, p5.2, (t38.2.2.1 + 1), p4.2)
            · refine zs_icmp_gt (pc := 58) (tgt := 64) dX10_harvest_58 (by decide) ?_ ?_
              · refine zs_iload (pc := 64) 6 dX10_harvest_64 rfl ?_
                refine zs_istore (pc := 66) (lv' := [(0, .ref m), (1, .int a1), (2, .int a2), (3, .int a3), (4, .int t38.2.2.1), (5, .int t38.2.1), (6, .int t38.2.2.1), (7, .int p4.1)]) [1, 2, 3, 4, 0, 5, 6, 7] dX10_harvest_66 (by decide) rfl ?_
                refine zs_iload (pc := 68) 7 dX10_harvest_68 rfl ?_
                refine zs_istore (pc := 70) (lv' := [(0, .ref m), (1, .int a1), (2, .int a2), (3, .int a3), (4, .int t38.2.2.1), (5, .int p4.1), (6, .int t38.2.2.1), (7, .int p4.1)]) [1, 2, 3, 4, 5, 0, 6, 7] dX10_harvest_70 (by decide) rfl ?_
                refine zs_sub (lv' := [(0, .ref m), (1, .int a1), (2, .int a2), (3, .int a3), (4, .int t38.2.2.1), (5, .int p4.1), (6, .int t38.2.2.1)]) [0, 1, 2, 3, 4, 5, 6] rfl ?_
                exact h72 (t38.2.2.1, p4.1)
              · refine zs_goto (pc := 61) (tgt := 72) dX10_harvest_61 (by decide) ?_
                refine zs_sub (lv' := [(0, .ref m), (1, .int a1), (2, .int a2), (3, .int a3), (4, .int t38.1), (5, .int t38.2.1), (6, .int t38.2.2.1)]) [0, 1, 2, 3, 4, 5, 6] rfl ?_
                exact h72 (t38.1, t38.2.1)
      · refine zs_iconst (pc := 27) (v := (-1)) dX10_harvest_27 rfl ?_
        exact zs_iret (pc := 28) dX10_harvest_28 rfl rfl rfl
    · refine zs_iconst (pc := 27) (v := (-1)) dX10_harvest_27 rfl ?_
      exact zs_iret (pc := 28) dX10_harvest_28 rfl rfl rfl
  · refine zs_iconst (pc := 27) (v := (-1)) dX10_harvest_27 rfl ?_
    exact zs_iret (pc := 28) dX10_harvest_28 rfl rfl rfl
theorem kv_then : zs_mV RX10 yX10_then cX10_then 4 (some .int) 3 := ⟨q2166, q2167, q152, q2168, by decide, by decide +kernel⟩
def gm_then (M : zm_S) (a1 : Int32) (a2 : Int32) (a3 : Int32) : Option (Int32 × zm_S) :=
(gm_isHouse M a1).bind fun b1 =>
if b1 = true then ((gm_isLong a2).bind fun b2 =>
if b2 = true then ((gm_in a3 0 1).bind fun b3 =>
if b3 = true then ((gm_copies M).bind fun M4 =>
(gm_goes M4 a2).bind fun M5 =>
if a3 = 0 then ((zs_ald 33 (M5.2.1 48) a1).bind fun x7 =>
some (x7, M5))
else ((zs_ald 33 (M5.2.1 48) (12 + a1)).bind fun x6 =>
some (x6, M5)))
else (some ((-1), M)))
else (some ((-1), M)))
else (some ((-1), M))
set_option maxHeartbeats 4000000 in
theorem km_then (D : zs_D) (h0 : zs_AH) (m : Nat) (M : zm_S) (a1 : Int32) (a2 : Int32) (a3 : Int32) : zs_Con D (zm_R h0 m) zm_bd zs_eI yX10_then cX10_then 4 (some .int) 6 [.ref m, .int a1, .int a2, .int a3] M (gm_then M a1 a2 a3) := by
  unfold gm_then
  refine zs_con (own := RX10) (nm := "then") pl_X10 rfl rfl (Nat.le_of_ble_eq_true rfl) ?_
  refine zs_lv (lv' := [(0, .ref m), (1, .int a1), (2, .int a2), (3, .int a3)]) rfl ?_
  refine zs_aload_n (pc := 0) 0 dX10_then_0 rfl rfl ?_
  refine zs_iload_n (pc := 1) 1 dX10_then_1 rfl rfl ?_
  refine zs_callVrB (pc := 2) [.int a1] [] (km_isHouse D h0 m M a1) kv_isHouse q1866 zc_X10 zm_recv dX10_then_2 rfl rfl (Nat.le_of_ble_eq_true rfl) (Nat.le_of_ble_eq_true rfl) (fun b1 => ?_)
  refine zs_if_f (pc := 5) (tgt := 24) dX10_then_5 (by decide) ?_ ?_
  · refine zs_iload_n (pc := 8) 2 dX10_then_8 rfl rfl ?_
    refine zs_callSrB (pc := 9) [.int a2] [] (km_isLong D _ _ M a2) kv_isLong q1991 dX10_then_9 rfl rfl (Nat.le_of_ble_eq_true rfl) (Nat.le_of_ble_eq_true rfl) (fun b2 => ?_)
    refine zs_if_f (pc := 12) (tgt := 24) dX10_then_12 (by decide) ?_ ?_
    · refine zs_iload_n (pc := 15) 3 dX10_then_15 rfl rfl ?_
      refine zs_iconst (pc := 16) (v := 0) dX10_then_16 rfl ?_
      refine zs_iconst (pc := 17) (v := 1) dX10_then_17 rfl ?_
      refine zs_callSrB (pc := 18) [.int a3, .int 0, .int 1] [] (km_in D _ _ M a3 0 1) kv_in q1870 dX10_then_18 rfl rfl (Nat.le_of_ble_eq_true rfl) (Nat.le_of_ble_eq_true rfl) (fun b3 => ?_)
      refine zs_if_t (pc := 21) (tgt := 26) dX10_then_21 (by decide) ?_ ?_
      · refine zs_aload_n (pc := 26) 0 dX10_then_26 rfl rfl ?_
        refine zs_callVv (pc := 27) [] [] (km_copies D h0 m M) kv_copies q1873 zc_X10 zm_recv dX10_then_27 rfl rfl (Nat.le_of_ble_eq_true rfl) (Nat.le_of_ble_eq_true rfl) (fun M4 => ?_)
        refine zs_aload_n (pc := 30) 0 dX10_then_30 rfl rfl ?_
        refine zs_iload_n (pc := 31) 2 dX10_then_31 rfl rfl ?_
        refine zs_callVv (pc := 32) [.int a2] [] (km_goes D h0 m M4 a2) kv_goes q1994 zc_X10 zm_recv dX10_then_32 rfl rfl (Nat.le_of_ble_eq_true rfl) (Nat.le_of_ble_eq_true rfl) (fun M5 => ?_)
        refine zs_iload_n (pc := 35) 3 dX10_then_35 rfl rfl ?_
        refine zs_if_ne (pc := 36) (tgt := 48) dX10_then_36 (by decide) ?_ ?_
        · refine zs_aload_n (pc := 39) 0 dX10_then_39 rfl rfl ?_
          refine zm_geta (pc := 40) 48 30 (by decide) rfl q1581 dX10_then_40 ?_
          refine zs_iload_n (pc := 43) 1 dX10_then_43 rfl rfl ?_
          refine zm_iald (pc := 44) 48 30 zm_p48 dX10_then_44 (fun x7 => ?_)
          refine zs_goto (pc := 45) (tgt := 57) dX10_then_45 (by decide) ?_
          exact zs_iret (pc := 57) dX10_then_57 rfl rfl rfl
        · refine zs_aload_n (pc := 48) 0 dX10_then_48 rfl rfl ?_
          refine zm_geta (pc := 49) 48 30 (by decide) rfl q1581 dX10_then_49 ?_
          refine zs_bipush (pc := 52) (v := 12) dX10_then_52 (by decide) ?_
          refine zs_iload_n (pc := 54) 1 dX10_then_54 rfl rfl ?_
          refine zs_iadd (pc := 55) dX10_then_55 ?_
          refine zm_iald (pc := 56) 48 30 zm_p48 dX10_then_56 (fun x6 => ?_)
          exact zs_iret (pc := 57) dX10_then_57 rfl rfl rfl
      · refine zs_iconst (pc := 24) (v := (-1)) dX10_then_24 rfl ?_
        exact zs_iret (pc := 25) dX10_then_25 rfl rfl rfl
    · refine zs_iconst (pc := 24) (v := (-1)) dX10_then_24 rfl ?_
      exact zs_iret (pc := 25) dX10_then_25 rfl rfl rfl
  · refine zs_iconst (pc := 24) (v := (-1)) dX10_then_24 rfl ?_
    exact zs_iret (pc := 25) dX10_then_25 rfl rfl rfl
theorem kv_isMark : zs_mS yX10_isMark cX10_isMark 1 (some .boolean) 1 := ⟨q2174, q152, q2175, by decide, by decide +kernel⟩
def gm_isMark (a0 : Int32) : Option (Bool) :=
(gm_in a0 0 99).bind fun b1 =>
some b1
set_option maxHeartbeats 4000000 in
theorem km_isMark {σ : Type} (D : zs_D) (Rl : σ → zs_AH → Prop) (bd : σ → Nat × Nat) (M : σ) (a0 : Int32) : zs_Con D Rl bd zs_eB yX10_isMark cX10_isMark 1 (some .boolean) 1 [.int a0] M ((gm_isMark a0).map fun x => (x, M)) := by
  unfold gm_isMark
  refine zs_conR (own := RX10) (nm := "isMark") pl_X10 rfl rfl (Nat.le_of_ble_eq_true rfl) ?_
  refine zs_lv (lv' := [(0, .int a0)]) rfl ?_
  refine zs_iload_n (pc := 0) 0 dX10_isMark_0 rfl rfl ?_
  refine zs_iconst (pc := 1) (v := 0) dX10_isMark_1 rfl ?_
  refine zs_bipush (pc := 2) (v := 99) dX10_isMark_2 (by decide) ?_
  refine zs_callSrB (pc := 4) [.int a0, .int 0, .int 99] [] (km_in D _ _ M a0 0 99) kv_in q1870 dX10_isMark_4 rfl rfl (Nat.le_of_ble_eq_true rfl) (Nat.le_of_ble_eq_true rfl) (fun b1 => ?_)
  exact zs_iret (pc := 7) dX10_isMark_7 rfl rfl (zs_nb _)
theorem kv_year : zs_mV RX10 yX10_year cX10_year 7 (some .int) 4 := ⟨q2170, q2171, q152, q2172, by decide, by decide +kernel⟩
def gm_year_L41 (a4 : Int32) (a3 : Int32) (a1 : Int32) (a2 : Int32) : (Int32 × Int32 × zm_S) → Option ((Int32 × Int32 × zm_S) ⊕ (Int32 × zm_S)) := fun t41 =>
if t41.2.1 < a4 then ((gm_copies t41.2.2).bind fun M5 =>
(some (zm_sF M5 49 ((M5.1 49) + t41.2.1))).bind fun M6 =>
(gm_goes M6 a3).bind fun M7 =>
(zs_ald 33 (M7.2.1 48) a1).bind fun x8 =>
(if x8 < a2 then (some t41.1)
else (some (t41.1 + 1))).bind fun (p9 : Int32) =>
some (Sum.inl (p9, (t41.2.1 + 1), M7)))
else (some (Sum.inr (t41.1, t41.2.2)))
def gm_year (M : zm_S) (a1 : Int32) (a2 : Int32) (a3 : Int32) (a4 : Int32) : Option (Int32 × zm_S) :=
(gm_isHouse M a1).bind fun b1 =>
if b1 = true then ((gm_isMark a2).bind fun b2 =>
if b2 = true then ((gm_isLong a3).bind fun b3 =>
if b3 = true then ((gm_in a4 1 20).bind fun b4 =>
if b4 = true then ((zs_loop 5000 (gm_year_L41 a4 a3 a1 a2) (0, 0, M)).bind fun z => some z)
else (some ((-1), M)))
else (some ((-1), M)))
else (some ((-1), M)))
else (some ((-1), M))
set_option maxHeartbeats 4000000 in
theorem km_year (D : zs_D) (h0 : zs_AH) (m : Nat) (M : zm_S) (a1 : Int32) (a2 : Int32) (a3 : Int32) (a4 : Int32) : zs_Con D (zm_R h0 m) zm_bd zs_eI yX10_year cX10_year 7 (some .int) 6 [.ref m, .int a1, .int a2, .int a3, .int a4] M (gm_year M a1 a2 a3 a4) := by
  unfold gm_year
  refine zs_con (own := RX10) (nm := "year") pl_X10 rfl rfl (Nat.le_of_ble_eq_true rfl) ?_
  refine zs_lv (lv' := [(0, .ref m), (1, .int a1), (2, .int a2), (3, .int a3), (4, .int a4)]) rfl ?_
  refine zs_aload_n (pc := 0) 0 dX10_year_0 rfl rfl ?_
  refine zs_iload_n (pc := 1) 1 dX10_year_1 rfl rfl ?_
  refine zs_callVrB (pc := 2) [.int a1] [] (km_isHouse D h0 m M a1) kv_isHouse q1866 zc_X10 zm_recv dX10_year_2 rfl rfl (Nat.le_of_ble_eq_true rfl) (Nat.le_of_ble_eq_true rfl) (fun b1 => ?_)
  refine zs_if_f (pc := 5) (tgt := 33) dX10_year_5 (by decide) ?_ ?_
  · refine zs_iload_n (pc := 8) 2 dX10_year_8 rfl rfl ?_
    refine zs_callSrB (pc := 9) [.int a2] [] (km_isMark D _ _ M a2) kv_isMark q2173 dX10_year_9 rfl rfl (Nat.le_of_ble_eq_true rfl) (Nat.le_of_ble_eq_true rfl) (fun b2 => ?_)
    refine zs_if_f (pc := 12) (tgt := 33) dX10_year_12 (by decide) ?_ ?_
    · refine zs_iload_n (pc := 15) 3 dX10_year_15 rfl rfl ?_
      refine zs_callSrB (pc := 16) [.int a3] [] (km_isLong D _ _ M a3) kv_isLong q1991 dX10_year_16 rfl rfl (Nat.le_of_ble_eq_true rfl) (Nat.le_of_ble_eq_true rfl) (fun b3 => ?_)
      refine zs_if_f (pc := 19) (tgt := 33) dX10_year_19 (by decide) ?_ ?_
      · refine zs_iload (pc := 22) 4 dX10_year_22 rfl ?_
        refine zs_iconst (pc := 24) (v := 1) dX10_year_24 rfl ?_
        refine zs_bipush (pc := 25) (v := 20) dX10_year_25 (by decide) ?_
        refine zs_callSrB (pc := 27) [.int a4, .int 1, .int 20] [] (km_in D _ _ M a4 1 20) kv_in q1870 dX10_year_27 rfl rfl (Nat.le_of_ble_eq_true rfl) (Nat.le_of_ble_eq_true rfl) (fun b4 => ?_)
        refine zs_if_t (pc := 30) (tgt := 35) dX10_year_30 (by decide) ?_ ?_
        · refine zs_iconst (pc := 35) (v := 0) dX10_year_35 rfl ?_
          refine zs_istore (pc := 36) (lv' := [(0, .ref m), (1, .int a1), (2, .int a2), (3, .int a3), (4, .int a4), (5, .int 0)]) [1, 2, 3, 4, 5, 0] dX10_year_36 (by decide) rfl ?_
          refine zs_iconst (pc := 38) (v := 0) dX10_year_38 rfl ?_
          refine zs_istore (pc := 39) (lv' := [(0, .ref m), (1, .int a1), (2, .int a2), (3, .int a3), (4, .int a4), (5, .int 0), (6, .int 0)]) [1, 2, 3, 4, 5, 6, 0] dX10_year_39 (by decide) rfl ?_
          refine zs_whileX (pc := 41) (fun (t41 : Int32 × Int32 × zm_S) => t41.2.2) (fun (t41 : Int32 × Int32 × zm_S) => [(0, .ref m), (1, .int a1), (2, .int a2), (3, .int a3), (4, .int a4), (5, .int t41.1), (6, .int t41.2.1)]) 5000 (0, 0, M) (fun X41 hL41 hR41 t41 => ?_)
          unfold gm_year_L41
          refine zs_iload (pc := 41) 6 dX10_year_41 rfl ?_
          refine zs_iload (pc := 43) 4 dX10_year_43 rfl ?_
          refine zs_icmp_ge (pc := 45) (tgt := 87) dX10_year_45 (by decide) ?_ ?_
          · refine zs_aload_n (pc := 48) 0 dX10_year_48 rfl rfl ?_
            refine zs_callVv (pc := 49) [] [] (km_copies D h0 m t41.2.2) kv_copies q1873 zc_X10 zm_recv dX10_year_49 rfl rfl (Nat.le_of_ble_eq_true rfl) (Nat.le_of_ble_eq_true rfl) (fun M5 => ?_)
            refine zs_aload_n (pc := 52) 0 dX10_year_52 rfl rfl ?_
            refine zs_dup (pc := 53) dX10_year_53 rfl ?_
            refine zm_geti (pc := 54) 49 (by decide) rfl q1582 dX10_year_54 ?_
            refine zs_iload (pc := 57) 6 dX10_year_57 rfl ?_
            refine zs_iadd (pc := 59) dX10_year_59 ?_
            refine zm_puti (pc := 60) 49 (by decide) rfl q1582 rfl rfl rfl dX10_year_60 ?_
            refine zs_nmM (fun M6 => ?_)
            refine zs_aload_n (pc := 63) 0 dX10_year_63 rfl rfl ?_
            refine zs_iload_n (pc := 64) 3 dX10_year_64 rfl rfl ?_
            refine zs_callVv (pc := 65) [.int a3] [] (km_goes D h0 m M6 a3) kv_goes q1994 zc_X10 zm_recv dX10_year_65 rfl rfl (Nat.le_of_ble_eq_true rfl) (Nat.le_of_ble_eq_true rfl) (fun M7 => ?_)
            refine zs_aload_n (pc := 68) 0 dX10_year_68 rfl rfl ?_
            refine zm_geta (pc := 69) 48 30 (by decide) rfl q1581 dX10_year_69 ?_
            refine zs_iload_n (pc := 72) 1 dX10_year_72 rfl rfl ?_
            refine zm_iald (pc := 73) 48 30 zm_p48 dX10_year_73 (fun x8 => ?_)
            refine zs_iload_n (pc := 74) 2 dX10_year_74 rfl rfl ?_
            refine zs_join (pc := 75) (fun (p9 : Int32) => M7) 81 (fun (p9 : Int32) => [(0, .ref m), (1, .int a1), (2, .int a2), (3, .int a3), (4, .int a4), (5, .int p9), (6, .int t41.2.1)]) (fun (p9 : Int32) => []) (fun p9 => ?_) (fun h81 => ?_)
            · refine zs_iinc (pc := 81) (lv' := [(0, .ref m), (1, .int a1), (2, .int a2), (3, .int a3), (4, .int a4), (5, .int p9), (6, .int (t41.2.1 + 1))]) 6 [1, 2, 3, 4, 5, 6, 0] dX10_year_81 rfl rfl (by decide) rfl ?_
              refine zs_goto (pc := 84) (tgt := 41) dX10_year_84 (by decide) ?_
              exact hL41 (p9, (t41.2.1 + 1), M7)
            · refine zs_icmp_lt (pc := 75) (tgt := 81) dX10_year_75 (by decide) ?_ ?_
              · exact h81 t41.1
              · refine zs_iinc (pc := 78) (lv' := [(0, .ref m), (1, .int a1), (2, .int a2), (3, .int a3), (4, .int a4), (5, .int (t41.1 + 1)), (6, .int t41.2.1)]) 5 [1, 2, 3, 4, 5, 0, 6] dX10_year_78 rfl rfl (by decide) rfl ?_
                exact h81 (t41.1 + 1)
          · refine zs_iload (pc := 87) 5 dX10_year_87 rfl ?_
            exact zs_iret (pc := 89) dX10_year_89 ((hR41 _).trans rfl) rfl rfl
        · refine zs_iconst (pc := 33) (v := (-1)) dX10_year_33 rfl ?_
          exact zs_iret (pc := 34) dX10_year_34 rfl rfl rfl
      · refine zs_iconst (pc := 33) (v := (-1)) dX10_year_33 rfl ?_
        exact zs_iret (pc := 34) dX10_year_34 rfl rfl rfl
    · refine zs_iconst (pc := 33) (v := (-1)) dX10_year_33 rfl ?_
      exact zs_iret (pc := 34) dX10_year_34 rfl rfl rfl
  · refine zs_iconst (pc := 33) (v := (-1)) dX10_year_33 rfl ?_
    exact zs_iret (pc := 34) dX10_year_34 rfl rfl rfl
theorem kv_tell : zs_mV RX10 yX10_tell cX10_tell 4 (some .int) 3 := ⟨q2177, q2178, q152, q2179, by decide, by decide +kernel⟩
def gm_tell (M : zm_S) (a1 : Int32) (a2 : Int32) (a3 : Int32) : Option (Int32 × zm_S) :=
if (M.1 63) = 20 then (some ((-1), M))
else ((gm_in a1 0 5).bind fun b1 =>
if b1 = true then ((gm_isMark a2).bind fun b2 =>
if b2 = true then ((zs_ast 20 (M.1 63) (zm_sA M 64 (M.1 63) a1)).bind fun M3 =>
(zs_ast 20 (M3.1 63) (zm_sA M3 65 (M3.1 63) a2)).bind fun M4 =>
(zs_ast 20 (M4.1 63) (zm_sA M4 66 (M4.1 63) (vp_nar .boolean a3))).bind fun M5 =>
(some (zm_sF M5 63 ((M5.1 63) + 1))).bind fun M6 =>
some (((M6.1 63) - 1), M6))
else (some ((-1), M)))
else (some ((-1), M)))
set_option maxHeartbeats 4000000 in
theorem km_tell (D : zs_D) (h0 : zs_AH) (m : Nat) (M : zm_S) (a1 : Int32) (a2 : Int32) (a3 : Int32) : zs_Con D (zm_R h0 m) zm_bd zs_eI yX10_tell cX10_tell 4 (some .int) 2 [.ref m, .int a1, .int a2, .int a3] M (gm_tell M a1 a2 a3) := by
  unfold gm_tell
  refine zs_con (own := RX10) (nm := "tell") pl_X10 rfl rfl (Nat.le_of_ble_eq_true rfl) ?_
  refine zs_lv (lv' := [(0, .ref m), (1, .int a1), (2, .int a2), (3, .int a3)]) rfl ?_
  refine zs_aload_n (pc := 0) 0 dX10_tell_0 rfl rfl ?_
  refine zm_geti (pc := 1) 63 (by decide) rfl q1596 dX10_tell_1 ?_
  refine zs_bipush (pc := 4) (v := 20) dX10_tell_4 (by decide) ?_
  refine zs_icmp_eq (pc := 6) (tgt := 25) dX10_tell_6 (by decide) ?_ ?_
  · refine zs_iconst (pc := 25) (v := (-1)) dX10_tell_25 rfl ?_
    exact zs_iret (pc := 26) dX10_tell_26 rfl rfl rfl
  · refine zs_iload_n (pc := 9) 1 dX10_tell_9 rfl rfl ?_
    refine zs_iconst (pc := 10) (v := 0) dX10_tell_10 rfl ?_
    refine zs_iconst (pc := 11) (v := 5) dX10_tell_11 rfl ?_
    refine zs_callSrB (pc := 12) [.int a1, .int 0, .int 5] [] (km_in D _ _ M a1 0 5) kv_in q1870 dX10_tell_12 rfl rfl (Nat.le_of_ble_eq_true rfl) (Nat.le_of_ble_eq_true rfl) (fun b1 => ?_)
    refine zs_if_f (pc := 15) (tgt := 25) dX10_tell_15 (by decide) ?_ ?_
    · refine zs_iload_n (pc := 18) 2 dX10_tell_18 rfl rfl ?_
      refine zs_callSrB (pc := 19) [.int a2] [] (km_isMark D _ _ M a2) kv_isMark q2173 dX10_tell_19 rfl rfl (Nat.le_of_ble_eq_true rfl) (Nat.le_of_ble_eq_true rfl) (fun b2 => ?_)
      refine zs_if_t (pc := 22) (tgt := 27) dX10_tell_22 (by decide) ?_ ?_
      · refine zs_aload_n (pc := 27) 0 dX10_tell_27 rfl rfl ?_
        refine zm_geta (pc := 28) 64 41 (by decide) rfl q1597 dX10_tell_28 ?_
        refine zs_aload_n (pc := 31) 0 dX10_tell_31 rfl rfl ?_
        refine zm_geti (pc := 32) 63 (by decide) rfl q1596 dX10_tell_32 ?_
        refine zs_iload_n (pc := 35) 1 dX10_tell_35 rfl rfl ?_
        refine zm_iast (pc := 36) 64 41 zm_p64 dX10_tell_36 (fun M3 => ?_)
        refine zs_aload_n (pc := 37) 0 dX10_tell_37 rfl rfl ?_
        refine zm_geta (pc := 38) 65 42 (by decide) rfl q1598 dX10_tell_38 ?_
        refine zs_aload_n (pc := 41) 0 dX10_tell_41 rfl rfl ?_
        refine zm_geti (pc := 42) 63 (by decide) rfl q1596 dX10_tell_42 ?_
        refine zs_iload_n (pc := 45) 2 dX10_tell_45 rfl rfl ?_
        refine zm_iast (pc := 46) 65 42 zm_p65 dX10_tell_46 (fun M4 => ?_)
        refine zs_aload_n (pc := 47) 0 dX10_tell_47 rfl rfl ?_
        refine zm_geta (pc := 48) 66 43 (by decide) rfl q1599 dX10_tell_48 ?_
        refine zs_aload_n (pc := 51) 0 dX10_tell_51 rfl rfl ?_
        refine zm_geti (pc := 52) 63 (by decide) rfl q1596 dX10_tell_52 ?_
        refine zs_iload_n (pc := 55) 3 dX10_tell_55 rfl rfl ?_
        refine zm_zast (pc := 56) 66 43 zm_p66 dX10_tell_56 (fun M5 => ?_)
        refine zs_aload_n (pc := 57) 0 dX10_tell_57 rfl rfl ?_
        refine zs_dup (pc := 58) dX10_tell_58 rfl ?_
        refine zm_geti (pc := 59) 63 (by decide) rfl q1596 dX10_tell_59 ?_
        refine zs_iconst (pc := 62) (v := 1) dX10_tell_62 rfl ?_
        refine zs_iadd (pc := 63) dX10_tell_63 ?_
        refine zm_puti (pc := 64) 63 (by decide) rfl q1596 rfl rfl rfl dX10_tell_64 ?_
        refine zs_nmM (fun M6 => ?_)
        refine zs_aload_n (pc := 67) 0 dX10_tell_67 rfl rfl ?_
        refine zm_geti (pc := 68) 63 (by decide) rfl q1596 dX10_tell_68 ?_
        refine zs_iconst (pc := 71) (v := 1) dX10_tell_71 rfl ?_
        refine zs_isub (pc := 72) dX10_tell_72 ?_
        exact zs_iret (pc := 73) dX10_tell_73 rfl rfl rfl
      · refine zs_iconst (pc := 25) (v := (-1)) dX10_tell_25 rfl ?_
        exact zs_iret (pc := 26) dX10_tell_26 rfl rfl rfl
    · refine zs_iconst (pc := 25) (v := (-1)) dX10_tell_25 rfl ?_
      exact zs_iret (pc := 26) dX10_tell_26 rfl rfl rfl
theorem kv_forget : zs_mV RX10 yX10_forget cX10_forget 2 (some .int) 0 := ⟨q2181, q2182, q152, q2183, by decide, by decide +kernel⟩
def gm_forget (M : zm_S) : Option (Int32 × zm_S) :=
(some (M.1 63)).bind fun x1 =>
(some (zm_sF M 63 0)).bind fun M2 =>
some (x1, M2)
set_option maxHeartbeats 4000000 in
theorem km_forget (D : zs_D) (h0 : zs_AH) (m : Nat) (M : zm_S) : zs_Con D (zm_R h0 m) zm_bd zs_eI yX10_forget cX10_forget 2 (some .int) 0 [.ref m] M (gm_forget M) := by
  unfold gm_forget
  refine zs_con (own := RX10) (nm := "forget") pl_X10 rfl rfl (Nat.le_of_ble_eq_true rfl) ?_
  refine zs_lv (lv' := [(0, .ref m)]) rfl ?_
  refine zs_aload_n (pc := 0) 0 dX10_forget_0 rfl rfl ?_
  refine zm_geti (pc := 1) 63 (by decide) rfl q1596 dX10_forget_1 ?_
  refine zs_nm (fun x1 => ?_)
  refine zs_istore_n (pc := 4) (lv' := [(0, .ref m), (1, .int x1)]) [1, 0] dX10_forget_4 rfl (by decide) rfl ?_
  refine zs_aload_n (pc := 5) 0 dX10_forget_5 rfl rfl ?_
  refine zs_iconst (pc := 6) (v := 0) dX10_forget_6 rfl ?_
  refine zm_puti (pc := 7) 63 (by decide) rfl q1596 rfl rfl rfl dX10_forget_7 ?_
  refine zs_nmM (fun M2 => ?_)
  refine zs_iload_n (pc := 10) 1 dX10_forget_10 rfl rfl ?_
  exact zs_iret (pc := 11) dX10_forget_11 rfl rfl rfl
theorem kv_isAsked : zs_mV RX10 yX10_isAsked cX10_isAsked 3 (some .boolean) 2 := ⟨q2190, qs130, q152, q2191, by decide, by decide +kernel⟩
def gm_isAsked (M : zm_S) (a1 : Int32) (a2 : Int32) : Option (Bool) :=
(gm_in a1 0 (M.1 63)).bind fun b1 =>
zs_let (fun (p2 : Unit) => some false) fun J26 =>
if b1 = true then ((gm_in a2 1 6).bind fun b3 =>
if b3 = true then (some true)
else (J26 ()))
else (J26 ())
set_option maxHeartbeats 4000000 in
theorem km_isAsked (D : zs_D) (h0 : zs_AH) (m : Nat) (M : zm_S) (a1 : Int32) (a2 : Int32) : zs_Con D (zm_R h0 m) zm_bd zs_eB yX10_isAsked cX10_isAsked 3 (some .boolean) 1 [.ref m, .int a1, .int a2] M ((gm_isAsked M a1 a2).map fun x => (x, M)) := by
  unfold gm_isAsked
  refine zs_conR (own := RX10) (nm := "isAsked") pl_X10 rfl rfl (Nat.le_of_ble_eq_true rfl) ?_
  refine zs_lv (lv' := [(0, .ref m), (1, .int a1), (2, .int a2)]) rfl ?_
  refine zs_iload_n (pc := 0) 1 dX10_isAsked_0 rfl rfl ?_
  refine zs_iconst (pc := 1) (v := 0) dX10_isAsked_1 rfl ?_
  refine zs_aload_n (pc := 2) 0 dX10_isAsked_2 rfl rfl ?_
  refine zm_geti (pc := 3) 63 (by decide) rfl q1596 dX10_isAsked_3 ?_
  refine zs_callSrB (pc := 6) [.int a1, .int 0, .int (M.1 63)] [] (km_in D _ _ M a1 0 (M.1 63)) kv_in q1870 dX10_isAsked_6 rfl rfl (Nat.le_of_ble_eq_true rfl) (Nat.le_of_ble_eq_true rfl) (fun b1 => ?_)
  refine zs_letJ (pc := 9) (fun (p2 : Unit) => M) 26 (fun (p2 : Unit) => []) (fun (p2 : Unit) => []) (fun p2 => ?_) (fun J26 h26 => ?_)
  · refine zs_iconst (pc := 26) (v := 0) dX10_isAsked_26 rfl ?_
    exact zs_iret (pc := 27) dX10_isAsked_27 rfl rfl rfl
  · refine zs_if_f (pc := 9) (tgt := 26) dX10_isAsked_9 (by decide) ?_ ?_
    · refine zs_iload_n (pc := 12) 2 dX10_isAsked_12 rfl rfl ?_
      refine zs_iconst (pc := 13) (v := 1) dX10_isAsked_13 rfl ?_
      refine zs_bipush (pc := 14) (v := 6) dX10_isAsked_14 (by decide) ?_
      refine zs_callSrB (pc := 16) [.int a2, .int 1, .int 6] [] (km_in D _ _ M a2 1 6) kv_in q1870 dX10_isAsked_16 rfl rfl (Nat.le_of_ble_eq_true rfl) (Nat.le_of_ble_eq_true rfl) (fun b3 => ?_)
      refine zs_if_f (pc := 19) (tgt := 26) dX10_isAsked_19 (by decide) ?_ ?_
      · refine zs_iconst (pc := 22) (v := 1) dX10_isAsked_22 rfl ?_
        refine zs_goto (pc := 23) (tgt := 27) dX10_isAsked_23 (by decide) ?_
        exact zs_iret (pc := 27) dX10_isAsked_27 rfl rfl rfl
      · refine zs_sub (lv' := []) [] rfl ?_
        exact h26 ()
    · refine zs_sub (lv' := []) [] rfl ?_
      exact h26 ()
theorem kv_sixes : zs_mS yX10_sixes cX10_sixes 3 (some .int) 1 := ⟨q2193, q152, q2194, by decide, by decide +kernel⟩
def gm_sixes_L4 (a0 : Int32) : (Int32 × Int32) → Option ((Int32 × Int32) ⊕ (Int32)) := fun t4 =>
if t4.2 < a0 then ((some (t4.1 * 6)).bind fun x1 =>
some (Sum.inl (x1, (t4.2 + 1))))
else (some (Sum.inr t4.1))
def gm_sixes (a0 : Int32) : Option (Int32) :=
(zs_loop 5000 (gm_sixes_L4 a0) (1, 0)).bind fun z => some z
set_option maxHeartbeats 4000000 in
theorem km_sixes {σ : Type} (D : zs_D) (Rl : σ → zs_AH → Prop) (bd : σ → Nat × Nat) (M : σ) (a0 : Int32) : zs_Con D Rl bd zs_eI yX10_sixes cX10_sixes 3 (some .int) 0 [.int a0] M ((gm_sixes a0).map fun x => (x, M)) := by
  unfold gm_sixes
  refine zs_conR (own := RX10) (nm := "sixes") pl_X10 rfl rfl (Nat.le_of_ble_eq_true rfl) ?_
  refine zs_lv (lv' := [(0, .int a0)]) rfl ?_
  refine zs_iconst (pc := 0) (v := 1) dX10_sixes_0 rfl ?_
  refine zs_istore_n (pc := 1) (lv' := [(0, .int a0), (1, .int 1)]) [1, 0] dX10_sixes_1 rfl (by decide) rfl ?_
  refine zs_iconst (pc := 2) (v := 0) dX10_sixes_2 rfl ?_
  refine zs_istore_n (pc := 3) (lv' := [(0, .int a0), (1, .int 1), (2, .int 0)]) [1, 2, 0] dX10_sixes_3 rfl (by decide) rfl ?_
  refine zs_whileX (pc := 4) (fun (t4 : Int32 × Int32) => M) (fun (t4 : Int32 × Int32) => [(0, .int a0), (1, .int t4.1), (2, .int t4.2)]) 5000 (1, 0) (fun X4 hL4 hR4 t4 => ?_)
  unfold gm_sixes_L4
  refine zs_iload_n (pc := 4) 2 dX10_sixes_4 rfl rfl ?_
  refine zs_iload_n (pc := 5) 0 dX10_sixes_5 rfl rfl ?_
  refine zs_icmp_ge (pc := 6) (tgt := 20) dX10_sixes_6 (by decide) ?_ ?_
  · refine zs_iload_n (pc := 9) 1 dX10_sixes_9 rfl rfl ?_
    refine zs_bipush (pc := 10) (v := 6) dX10_sixes_10 (by decide) ?_
    refine zs_imul (pc := 12) dX10_sixes_12 ?_
    refine zs_nm (fun x1 => ?_)
    refine zs_istore_n (pc := 13) (lv' := [(0, .int a0), (1, .int x1), (2, .int t4.2)]) [1, 0, 2] dX10_sixes_13 rfl (by decide) rfl ?_
    refine zs_iinc (pc := 14) (lv' := [(0, .int a0), (1, .int x1), (2, .int (t4.2 + 1))]) 2 [1, 2, 0] dX10_sixes_14 rfl rfl (by decide) rfl ?_
    refine zs_goto (pc := 17) (tgt := 4) dX10_sixes_17 (by decide) ?_
    exact hL4 (x1, (t4.2 + 1))
  · refine zs_iload_n (pc := 20) 1 dX10_sixes_20 rfl rfl ?_
    exact zs_iret (pc := 21) dX10_sixes_21 ((hR4 _).trans rfl) rfl rfl
theorem kv_doesFit : zs_mV RX10 yX10_doesFit cX10_doesFit 7 (some .boolean) 3 := ⟨q2197, qs131, q152, q2198, by decide, by decide +kernel⟩
def gm_doesFit_L11 : (Int32 × Int32 × Int32 × zm_S) → Option ((Int32 × Int32 × Int32 × zm_S) ⊕ ((zm_S) ⊕ (Bool × zm_S))) := fun t11 =>
if t11.2.2.1 < 0 then (some (Sum.inr (Sum.inl t11.2.2.2)))
else ((zs_ast 6 t11.2.2.1 (zm_sA t11.2.2.2 67 t11.2.2.1 (zs_rem t11.1 6))).bind fun M2 =>
(some (t11.1 / 6)).bind fun x3 =>
(zs_ald 6 (M2.2.1 67) t11.2.2.1).bind fun x4 =>
(gm_isHouse M2 x4).bind fun b5 =>
if b5 = true then ((zs_ald 6 (M2.2.1 67) t11.2.2.1).bind fun x6 =>
if ((zs_shr t11.2.1 x6) &&& 1) = 1 then (some (Sum.inr (Sum.inr (false, M2))))
else ((zs_ald 6 (M2.2.1 67) t11.2.2.1).bind fun x7 =>
(some (t11.2.1 ||| (zs_shl 1 x7))).bind fun x8 =>
some (Sum.inl (x3, x8, (t11.2.2.1 + (-1)), M2))))
else (some (Sum.inr (Sum.inr (false, M2)))))
def gm_doesFit_L90 (a2 : Int32) (r9 : zm_S) (a3 : Int32) : (Int32) → Option ((Int32) ⊕ (Bool × zm_S)) := fun t90 =>
if t90 < a2 then ((zs_ald 20 (r9.2.1 64) t90).bind fun x10 =>
if x10 < a3 then ((zs_ald 20 (r9.2.1 64) t90).bind fun x11 =>
(zs_ald 6 (r9.2.1 67) x11).bind fun x12 =>
(zs_ald 6 (r9.2.1 56) x12).bind fun x13 =>
(zs_ald 20 (r9.2.1 65) t90).bind fun x14 =>
(if x13 < x14 then (some 0)
else (some 1)).bind fun (p15 : Int32) =>
(zs_ald 20 (r9.2.1 66) t90).bind fun x16 =>
if p15 = x16 then (some (Sum.inl (t90 + 1)))
else (some (Sum.inr (false, r9))))
else (some (Sum.inr (false, r9))))
else (some (Sum.inr (true, r9)))
def gm_doesFit (M : zm_S) (a1 : Int32) (a2 : Int32) (a3 : Int32) : Option (Bool × zm_S) :=
(some (a3 - 1)).bind fun x1 =>
(zs_loop 5000 gm_doesFit_L11 (a1, 0, x1, M)).bind (Sum.elim (fun (r9 : zm_S) =>
(zs_loop 5000 (gm_doesFit_L90 a2 r9 a3) 0).bind fun z => some z)
 (fun z => some z))
set_option maxHeartbeats 4000000 in
theorem km_doesFit (D : zs_D) (h0 : zs_AH) (m : Nat) (M : zm_S) (a1 : Int32) (a2 : Int32) (a3 : Int32) : zs_Con D (zm_R h0 m) zm_bd zs_eB yX10_doesFit cX10_doesFit 7 (some .boolean) 2 [.ref m, .int a1, .int a2, .int a3] M (gm_doesFit M a1 a2 a3) := by
  unfold gm_doesFit
  refine zs_con (own := RX10) (nm := "doesFit") pl_X10 rfl rfl (Nat.le_of_ble_eq_true rfl) ?_
  refine zs_lv (lv' := [(0, .ref m), (1, .int a1), (2, .int a2), (3, .int a3)]) rfl ?_
  refine zs_iload_n (pc := 0) 1 dX10_doesFit_0 rfl rfl ?_
  refine zs_istore (pc := 1) (lv' := [(0, .ref m), (1, .int a1), (2, .int a2), (3, .int a3), (4, .int a1)]) [1, 2, 3, 4, 0] dX10_doesFit_1 (by decide) rfl ?_
  refine zs_iconst (pc := 3) (v := 0) dX10_doesFit_3 rfl ?_
  refine zs_istore (pc := 4) (lv' := [(0, .ref m), (1, .int a1), (2, .int a2), (3, .int a3), (4, .int a1), (5, .int 0)]) [1, 2, 3, 4, 5, 0] dX10_doesFit_4 (by decide) rfl ?_
  refine zs_iload_n (pc := 6) 3 dX10_doesFit_6 rfl rfl ?_
  refine zs_iconst (pc := 7) (v := 1) dX10_doesFit_7 rfl ?_
  refine zs_isub (pc := 8) dX10_doesFit_8 ?_
  refine zs_nm (fun x1 => ?_)
  refine zs_istore (pc := 9) (lv' := [(0, .ref m), (1, .int a1), (2, .int a2), (3, .int a3), (4, .int a1), (5, .int 0), (6, .int x1)]) [1, 2, 3, 4, 5, 6, 0] dX10_doesFit_9 (by decide) rfl ?_
  refine zs_sub (pc := 11) (lv' := [(0, .ref m), (2, .int a2), (3, .int a3), (4, .int a1), (5, .int 0), (6, .int x1)]) [0, 2, 3, 4, 5, 6] rfl ?_
  refine zs_whileR (pc := 11) (fun (t11 : Int32 × Int32 × Int32 × zm_S) => t11.2.2.2) (fun (t11 : Int32 × Int32 × Int32 × zm_S) => [(0, .ref m), (2, .int a2), (3, .int a3), (4, .int t11.1), (5, .int t11.2.1), (6, .int t11.2.2.1)]) 5000 (a1, 0, x1, M) (fun (r9 : zm_S) => r9) 87 (fun (r9 : zm_S) => [(0, .ref m), (2, .int a2), (3, .int a3)]) [] (fun r9 => ?_) (fun X11 hL11 hE11 hR11 t11 => ?_)
  · refine zs_iconst (pc := 87) (v := 0) dX10_doesFit_87 rfl ?_
    refine zs_istore (pc := 88) (lv' := [(0, .ref m), (2, .int a2), (3, .int a3), (6, .int 0)]) [1, 2, 3, 0] dX10_doesFit_88 (by decide) rfl ?_
    refine zs_whileX (pc := 90) (fun (t90 : Int32) => r9) (fun (t90 : Int32) => [(0, .ref m), (2, .int a2), (3, .int a3), (6, .int t90)]) 5000 0 (fun X90 hL90 hR90 t90 => ?_)
    unfold gm_doesFit_L90
    refine zs_iload (pc := 90) 3 dX10_doesFit_90 rfl ?_
    refine zs_iload_n (pc := 92) 1 dX10_doesFit_92 rfl rfl ?_
    refine zs_icmp_ge (pc := 93) (tgt := 157) dX10_doesFit_93 (by decide) ?_ ?_
    · refine zs_aload_n (pc := 96) 0 dX10_doesFit_96 rfl rfl ?_
      refine zm_geta (pc := 97) 64 41 (by decide) rfl q1597 dX10_doesFit_97 ?_
      refine zs_iload (pc := 100) 3 dX10_doesFit_100 rfl ?_
      refine zm_iald (pc := 102) 64 41 zm_p64 dX10_doesFit_102 (fun x10 => ?_)
      refine zs_iload_n (pc := 103) 2 dX10_doesFit_103 rfl rfl ?_
      refine zs_icmp_ge (pc := 104) (tgt := 149) dX10_doesFit_104 (by decide) ?_ ?_
      · refine zs_aload_n (pc := 107) 0 dX10_doesFit_107 rfl rfl ?_
        refine zm_geta (pc := 108) 56 35 (by decide) rfl q1589 dX10_doesFit_108 ?_
        refine zs_aload_n (pc := 111) 0 dX10_doesFit_111 rfl rfl ?_
        refine zm_geta (pc := 112) 67 44 (by decide) rfl q1600 dX10_doesFit_112 ?_
        refine zs_aload_n (pc := 115) 0 dX10_doesFit_115 rfl rfl ?_
        refine zm_geta (pc := 116) 64 41 (by decide) rfl q1597 dX10_doesFit_116 ?_
        refine zs_iload (pc := 119) 3 dX10_doesFit_119 rfl ?_
        refine zm_iald (pc := 121) 64 41 zm_p64 dX10_doesFit_121 (fun x11 => ?_)
        refine zm_iald (pc := 122) 67 44 zm_p67 dX10_doesFit_122 (fun x12 => ?_)
        refine zm_iald (pc := 123) 56 35 zm_p56 dX10_doesFit_123 (fun x13 => ?_)
        refine zs_aload_n (pc := 124) 0 dX10_doesFit_124 rfl rfl ?_
        refine zm_geta (pc := 125) 65 42 (by decide) rfl q1598 dX10_doesFit_125 ?_
        refine zs_iload (pc := 128) 3 dX10_doesFit_128 rfl ?_
        refine zm_iald (pc := 130) 65 42 zm_p65 dX10_doesFit_130 (fun x14 => ?_)
        refine zs_join (pc := 131) (fun (p15 : Int32) => r9) 139 (fun (p15 : Int32) => [(0, .ref m), (2, .int a2), (3, .int a3), (6, .int t90)]) (fun (p15 : Int32) => [.int p15]) (fun p15 => ?_) (fun h139 => ?_)
        · refine zs_aload_n (pc := 139) 0 dX10_doesFit_139 rfl rfl ?_
          refine zm_geta (pc := 140) 66 43 (by decide) rfl q1599 dX10_doesFit_140 ?_
          refine zs_iload (pc := 143) 3 dX10_doesFit_143 rfl ?_
          refine zm_zald (pc := 145) 66 43 zm_p66 dX10_doesFit_145 (fun x16 => ?_)
          refine zs_icmp_eq (pc := 146) (tgt := 151) dX10_doesFit_146 (by decide) ?_ ?_
          · refine zs_iinc (pc := 151) (lv' := [(0, .ref m), (2, .int a2), (3, .int a3), (6, .int (t90 + 1))]) 3 [1, 2, 3, 0] dX10_doesFit_151 rfl rfl (by decide) rfl ?_
            refine zs_goto (pc := 154) (tgt := 90) dX10_doesFit_154 (by decide) ?_
            exact hL90 (t90 + 1)
          · refine zs_iconst (pc := 149) (v := 0) dX10_doesFit_149 rfl ?_
            exact zs_iret (pc := 150) dX10_doesFit_150 ((hR90 _).trans rfl) rfl rfl
        · refine zs_icmp_lt (pc := 131) (tgt := 138) dX10_doesFit_131 (by decide) ?_ ?_
          · refine zs_iconst (pc := 138) (v := 0) dX10_doesFit_138 rfl ?_
            exact h139 0
          · refine zs_iconst (pc := 134) (v := 1) dX10_doesFit_134 rfl ?_
            refine zs_goto (pc := 135) (tgt := 139) dX10_doesFit_135 (by decide) ?_
            exact h139 1
      · refine zs_iconst (pc := 149) (v := 0) dX10_doesFit_149 rfl ?_
        exact zs_iret (pc := 150) dX10_doesFit_150 ((hR90 _).trans rfl) rfl rfl
    · refine zs_iconst (pc := 157) (v := 1) dX10_doesFit_157 rfl ?_
      exact zs_iret (pc := 158) dX10_doesFit_158 ((hR90 _).trans rfl) rfl rfl
  · unfold gm_doesFit_L11
    refine zs_iload (pc := 11) 5 dX10_doesFit_11 rfl ?_
    refine zs_if_lt (pc := 13) (tgt := 87) dX10_doesFit_13 (by decide) ?_ ?_
    · refine zs_sub (lv' := [(0, .ref m), (2, .int a2), (3, .int a3)]) [0, 1, 2] rfl ?_
      exact hE11 t11.2.2.2
    · refine zs_aload_n (pc := 16) 0 dX10_doesFit_16 rfl rfl ?_
      refine zm_geta (pc := 17) 67 44 (by decide) rfl q1600 dX10_doesFit_17 ?_
      refine zs_iload (pc := 20) 5 dX10_doesFit_20 rfl ?_
      refine zs_iload (pc := 22) 3 dX10_doesFit_22 rfl ?_
      refine zs_bipush (pc := 24) (v := 6) dX10_doesFit_24 (by decide) ?_
      refine zs_iremK (pc := 26) dX10_doesFit_26 (by decide) ?_
      refine zm_iast (pc := 27) 67 44 zm_p67 dX10_doesFit_27 (fun M2 => ?_)
      refine zs_iload (pc := 28) 3 dX10_doesFit_28 rfl ?_
      refine zs_bipush (pc := 30) (v := 6) dX10_doesFit_30 (by decide) ?_
      refine zs_idivK (pc := 32) dX10_doesFit_32 (by decide) ?_
      refine zs_nm (fun x3 => ?_)
      refine zs_istore (pc := 33) (lv' := [(0, .ref m), (2, .int a2), (3, .int a3), (4, .int x3), (5, .int t11.2.1), (6, .int t11.2.2.1)]) [1, 2, 3, 0, 4, 5] dX10_doesFit_33 (by decide) rfl ?_
      refine zs_aload_n (pc := 35) 0 dX10_doesFit_35 rfl rfl ?_
      refine zs_aload_n (pc := 36) 0 dX10_doesFit_36 rfl rfl ?_
      refine zm_geta (pc := 37) 67 44 (by decide) rfl q1600 dX10_doesFit_37 ?_
      refine zs_iload (pc := 40) 5 dX10_doesFit_40 rfl ?_
      refine zm_iald (pc := 42) 67 44 zm_p67 dX10_doesFit_42 (fun x4 => ?_)
      refine zs_callVrB (pc := 43) [.int x4] [] (km_isHouse D h0 m M2 x4) kv_isHouse q1866 zc_X10 zm_recv dX10_doesFit_43 rfl rfl (Nat.le_of_ble_eq_true rfl) (Nat.le_of_ble_eq_true rfl) (fun b5 => ?_)
      refine zs_if_f (pc := 46) (tgt := 65) dX10_doesFit_46 (by decide) ?_ ?_
      · refine zs_iload (pc := 49) 4 dX10_doesFit_49 rfl ?_
        refine zs_aload_n (pc := 51) 0 dX10_doesFit_51 rfl rfl ?_
        refine zm_geta (pc := 52) 67 44 (by decide) rfl q1600 dX10_doesFit_52 ?_
        refine zs_iload (pc := 55) 5 dX10_doesFit_55 rfl ?_
        refine zm_iald (pc := 57) 67 44 zm_p67 dX10_doesFit_57 (fun x6 => ?_)
        refine zs_ishr (pc := 58) dX10_doesFit_58 ?_
        refine zs_iconst (pc := 59) (v := 1) dX10_doesFit_59 rfl ?_
        refine zs_iand (pc := 60) dX10_doesFit_60 ?_
        refine zs_iconst (pc := 61) (v := 1) dX10_doesFit_61 rfl ?_
        refine zs_icmp_ne (pc := 62) (tgt := 67) dX10_doesFit_62 (by decide) ?_ ?_
        · refine zs_iconst (pc := 65) (v := 0) dX10_doesFit_65 rfl ?_
          exact zs_iret (pc := 66) dX10_doesFit_66 ((hR11 _).trans rfl) rfl rfl
        · refine zs_iload (pc := 67) 4 dX10_doesFit_67 rfl ?_
          refine zs_iconst (pc := 69) (v := 1) dX10_doesFit_69 rfl ?_
          refine zs_aload_n (pc := 70) 0 dX10_doesFit_70 rfl rfl ?_
          refine zm_geta (pc := 71) 67 44 (by decide) rfl q1600 dX10_doesFit_71 ?_
          refine zs_iload (pc := 74) 5 dX10_doesFit_74 rfl ?_
          refine zm_iald (pc := 76) 67 44 zm_p67 dX10_doesFit_76 (fun x7 => ?_)
          refine zs_ishl (pc := 77) dX10_doesFit_77 ?_
          refine zs_ior (pc := 78) dX10_doesFit_78 ?_
          refine zs_nm (fun x8 => ?_)
          refine zs_istore (pc := 79) (lv' := [(0, .ref m), (2, .int a2), (3, .int a3), (4, .int x3), (5, .int x8), (6, .int t11.2.2.1)]) [1, 2, 3, 4, 0, 5] dX10_doesFit_79 (by decide) rfl ?_
          refine zs_iinc (pc := 81) (lv' := [(0, .ref m), (2, .int a2), (3, .int a3), (4, .int x3), (5, .int x8), (6, .int (t11.2.2.1 + (-1)))]) 5 [1, 2, 3, 4, 5, 0] dX10_doesFit_81 rfl rfl (by decide) rfl ?_
          refine zs_goto (pc := 84) (tgt := 11) dX10_doesFit_84 (by decide) ?_
          exact hL11 (x3, x8, (t11.2.2.1 + (-1)), M2)
      · refine zs_iconst (pc := 65) (v := 0) dX10_doesFit_65 rfl ?_
        exact zs_iret (pc := 66) dX10_doesFit_66 ((hR11 _).trans rfl) rfl rfl
theorem kv_rows : zs_mV RX10 yX10_rows cX10_rows 7 (some .int) 3 := ⟨q2185, q2186, q152, q2187, by decide, by decide +kernel⟩
def gm_rows_L43 (a1 : Int32) (a2 : Int32) : (Int32 × Int32 × Int32 × zm_S) → Option ((Int32 × Int32 × Int32 × zm_S) ⊕ (Int32 × Int32 × zm_S)) := fun t43 =>
if t43.2.2.1 < 0 then (some (Sum.inr (t43.1, t43.2.1, t43.2.2.2)))
else ((gm_doesFit t43.2.2.2 t43.2.2.1 a1 a2).bind fun p7 =>
(if p7.1 = true then (some ((t43.1 + 1), t43.2.2.1))
else (some (t43.1, t43.2.1))).bind fun (p8 : Int32 × Int32) =>
some (Sum.inl (p8.1, p8.2, (t43.2.2.1 + (-1)), p7.2)))
def gm_rows (M : zm_S) (a1 : Int32) (a2 : Int32) (a3 : Int32) : Option (Int32 × zm_S) :=
(gm_isAsked M a1 a2).bind fun b1 =>
if b1 = true then ((gm_in a3 0 1).bind fun b2 =>
if b2 = true then ((gm_copies M).bind fun M3 =>
(gm_fillsPlans M3).bind fun M4 =>
(gm_sixes a2).bind fun x5 =>
(some (x5 - 1)).bind fun x6 =>
(zs_loop 50000 (gm_rows_L43 a1 a2) (0, (-2), x6, M4)).bind fun (r9 : Int32 × Int32 × zm_S) =>
if a3 = 0 then (some (r9.1, r9.2.2))
else (some (r9.2.1, r9.2.2)))
else (some ((-1), M)))
else (some ((-1), M))
set_option maxHeartbeats 4000000 in
theorem km_rows (D : zs_D) (h0 : zs_AH) (m : Nat) (M : zm_S) (a1 : Int32) (a2 : Int32) (a3 : Int32) : zs_Con D (zm_R h0 m) zm_bd zs_eI yX10_rows cX10_rows 7 (some .int) 6 [.ref m, .int a1, .int a2, .int a3] M (gm_rows M a1 a2 a3) := by
  unfold gm_rows
  refine zs_con (own := RX10) (nm := "rows") pl_X10 rfl rfl (Nat.le_of_ble_eq_true rfl) ?_
  refine zs_lv (lv' := [(0, .ref m), (1, .int a1), (2, .int a2), (3, .int a3)]) rfl ?_
  refine zs_aload_n (pc := 0) 0 dX10_rows_0 rfl rfl ?_
  refine zs_iload_n (pc := 1) 1 dX10_rows_1 rfl rfl ?_
  refine zs_iload_n (pc := 2) 2 dX10_rows_2 rfl rfl ?_
  refine zs_callVrB (pc := 3) [.int a1, .int a2] [] (km_isAsked D h0 m M a1 a2) kv_isAsked q2188 zc_X10 zm_recv dX10_rows_3 rfl rfl (Nat.le_of_ble_eq_true rfl) (Nat.le_of_ble_eq_true rfl) (fun b1 => ?_)
  refine zs_if_f (pc := 6) (tgt := 18) dX10_rows_6 (by decide) ?_ ?_
  · refine zs_iload_n (pc := 9) 3 dX10_rows_9 rfl rfl ?_
    refine zs_iconst (pc := 10) (v := 0) dX10_rows_10 rfl ?_
    refine zs_iconst (pc := 11) (v := 1) dX10_rows_11 rfl ?_
    refine zs_callSrB (pc := 12) [.int a3, .int 0, .int 1] [] (km_in D _ _ M a3 0 1) kv_in q1870 dX10_rows_12 rfl rfl (Nat.le_of_ble_eq_true rfl) (Nat.le_of_ble_eq_true rfl) (fun b2 => ?_)
    refine zs_if_t (pc := 15) (tgt := 20) dX10_rows_15 (by decide) ?_ ?_
    · refine zs_aload_n (pc := 20) 0 dX10_rows_20 rfl rfl ?_
      refine zs_callVv (pc := 21) [] [] (km_copies D h0 m M) kv_copies q1873 zc_X10 zm_recv dX10_rows_21 rfl rfl (Nat.le_of_ble_eq_true rfl) (Nat.le_of_ble_eq_true rfl) (fun M3 => ?_)
      refine zs_aload_n (pc := 24) 0 dX10_rows_24 rfl rfl ?_
      refine zs_callVv (pc := 25) [] [] (km_fillsPlans D h0 m M3) kv_fillsPlans q2066 zc_X10 zm_recv dX10_rows_25 rfl rfl (Nat.le_of_ble_eq_true rfl) (Nat.le_of_ble_eq_true rfl) (fun M4 => ?_)
      refine zs_iconst (pc := 28) (v := 0) dX10_rows_28 rfl ?_
      refine zs_istore (pc := 29) (lv' := [(0, .ref m), (1, .int a1), (2, .int a2), (3, .int a3), (4, .int 0)]) [1, 2, 3, 4, 0] dX10_rows_29 (by decide) rfl ?_
      refine zs_bipush (pc := 31) (v := (-2)) dX10_rows_31 (by decide) ?_
      refine zs_istore (pc := 33) (lv' := [(0, .ref m), (1, .int a1), (2, .int a2), (3, .int a3), (4, .int 0), (5, .int (-2))]) [1, 2, 3, 4, 5, 0] dX10_rows_33 (by decide) rfl ?_
      refine zs_iload_n (pc := 35) 2 dX10_rows_35 rfl rfl ?_
      refine zs_callSrI (pc := 36) [.int a2] [] (km_sixes D _ _ M4 a2) kv_sixes q2192 dX10_rows_36 rfl rfl (Nat.le_of_ble_eq_true rfl) (Nat.le_of_ble_eq_true rfl) (fun x5 => ?_)
      refine zs_iconst (pc := 39) (v := 1) dX10_rows_39 rfl ?_
      refine zs_isub (pc := 40) dX10_rows_40 ?_
      refine zs_nm (fun x6 => ?_)
      refine zs_istore (pc := 41) (lv' := [(0, .ref m), (1, .int a1), (2, .int a2), (3, .int a3), (4, .int 0), (5, .int (-2)), (6, .int x6)]) [1, 2, 3, 4, 5, 6, 0] dX10_rows_41 (by decide) rfl ?_
      refine zs_whileJ (pc := 43) (fun (t43 : Int32 × Int32 × Int32 × zm_S) => t43.2.2.2) (fun (t43 : Int32 × Int32 × Int32 × zm_S) => [(0, .ref m), (1, .int a1), (2, .int a2), (3, .int a3), (4, .int t43.1), (5, .int t43.2.1), (6, .int t43.2.2.1)]) 50000 (0, (-2), x6, M4) (fun (r9 : Int32 × Int32 × zm_S) => r9.2.2) 75 (fun (r9 : Int32 × Int32 × zm_S) => [(3, .int a3), (4, .int r9.1), (5, .int r9.2.1)]) [] (fun r9 => ?_) (fun X43 hL43 hE43 t43 => ?_)
      · refine zs_iload_n (pc := 75) 0 dX10_rows_75 rfl rfl ?_
        refine zs_if_ne (pc := 76) (tgt := 84) dX10_rows_76 (by decide) ?_ ?_
        · refine zs_iload (pc := 79) 1 dX10_rows_79 rfl ?_
          refine zs_goto (pc := 81) (tgt := 86) dX10_rows_81 (by decide) ?_
          exact zs_iret (pc := 86) dX10_rows_86 rfl rfl rfl
        · refine zs_iload (pc := 84) 2 dX10_rows_84 rfl ?_
          exact zs_iret (pc := 86) dX10_rows_86 rfl rfl rfl
      · unfold gm_rows_L43
        refine zs_iload (pc := 43) 6 dX10_rows_43 rfl ?_
        refine zs_if_lt (pc := 45) (tgt := 75) dX10_rows_45 (by decide) ?_ ?_
        · refine zs_sub (lv' := [(3, .int a3), (4, .int t43.1), (5, .int t43.2.1)]) [3, 4, 5] rfl ?_
          exact hE43 (t43.1, t43.2.1, t43.2.2.2)
        · refine zs_aload_n (pc := 48) 0 dX10_rows_48 rfl rfl ?_
          refine zs_iload (pc := 49) 6 dX10_rows_49 rfl ?_
          refine zs_iload_n (pc := 51) 1 dX10_rows_51 rfl rfl ?_
          refine zs_iload_n (pc := 52) 2 dX10_rows_52 rfl rfl ?_
          refine zs_callVwB (pc := 53) [.int t43.2.2.1, .int a1, .int a2] [] (km_doesFit D h0 m t43.2.2.2 t43.2.2.1 a1 a2) kv_doesFit q2195 zc_X10 zm_recv dX10_rows_53 rfl rfl (Nat.le_of_ble_eq_true rfl) (Nat.le_of_ble_eq_true rfl) (fun p7 => ?_)
          refine zs_join (pc := 56) (fun (p8 : Int32 × Int32) => p7.2) 69 (fun (p8 : Int32 × Int32) => [(0, .ref m), (1, .int a1), (2, .int a2), (3, .int a3), (4, .int p8.1), (5, .int p8.2), (6, .int t43.2.2.1)]) (fun (p8 : Int32 × Int32) => []) (fun p8 => ?_) (fun h69 => ?_)
          · refine zs_iinc (pc := 69) (lv' := [(0, .ref m), (1, .int a1), (2, .int a2), (3, .int a3), (4, .int p8.1), (5, .int p8.2), (6, .int (t43.2.2.1 + (-1)))]) 6 [1, 2, 3, 4, 5, 6, 0] dX10_rows_69 rfl rfl (by decide) rfl ?_
            refine zs_goto (pc := 72) (tgt := 43) dX10_rows_72 (by decide) ?_
            exact hL43 (p8.1, p8.2, (t43.2.2.1 + (-1)), p7.2)
          · refine zs_if_t (pc := 56) (tgt := 62) dX10_rows_56 (by decide) ?_ ?_
            · refine zs_iinc (pc := 62) (lv' := [(0, .ref m), (1, .int a1), (2, .int a2), (3, .int a3), (4, .int (t43.1 + 1)), (5, .int t43.2.1), (6, .int t43.2.2.1)]) 4 [1, 2, 3, 4, 0, 5, 6] dX10_rows_62 rfl rfl (by decide) rfl ?_
              refine zs_iload (pc := 65) 6 dX10_rows_65 rfl ?_
              refine zs_istore (pc := 67) (lv' := [(0, .ref m), (1, .int a1), (2, .int a2), (3, .int a3), (4, .int (t43.1 + 1)), (5, .int t43.2.2.1), (6, .int t43.2.2.1)]) [1, 2, 3, 4, 5, 0, 6] dX10_rows_67 (by decide) rfl ?_
              exact h69 ((t43.1 + 1), t43.2.2.1)
            · refine zs_goto (pc := 59) (tgt := 69) dX10_rows_59 (by decide) ?_
              exact h69 (t43.1, t43.2.1)
    · refine zs_iconst (pc := 18) (v := (-1)) dX10_rows_18 rfl ?_
      exact zs_iret (pc := 19) dX10_rows_19 rfl rfl rfl
  · refine zs_iconst (pc := 18) (v := (-1)) dX10_rows_18 rfl ?_
    exact zs_iret (pc := 19) dX10_rows_19 rfl rfl rfl
theorem kv_feel : zs_mV RX10 yX10_feel cX10_feel 9 (some .int) 3 := ⟨q2200, q2201, q152, q2202, by decide, by decide +kernel⟩
def gm_feel_L29 : (Int32 × zm_S) → Option ((Int32 × zm_S) ⊕ (zm_S)) := fun t29 =>
if t29.1 < 6 then ((zs_ast 6 t29.1 (zm_sA t29.2 68 t29.1 0)).bind fun M5 =>
some (Sum.inl ((t29.1 + 1), M5)))
else (some (Sum.inr t29.2))
def gm_feel_L85 (a2 : Int32) (a3 : Int32) (t56 : Int32 × Int32 × zm_S) : (Int32 × zm_S) → Option ((Int32 × zm_S) ⊕ (Int32 × zm_S)) := fun t85 =>
if t85.1 < a2 then ((zs_ald 6 (t85.2.2.1 67) t85.1).bind fun x10 =>
(zs_ald 6 (t85.2.2.1 56) x10).bind fun x11 =>
(if x11 < a3 then (some t85.2)
else ((zs_ald 6 (t85.2.2.1 68) t85.1).bind fun x13 =>
(zs_ast 6 t85.1 (zm_sA t85.2 68 t85.1 (x13 + 1))).bind fun M14 =>
some M14)).bind fun (p12 : zm_S) =>
some (Sum.inl ((t85.1 + 1), p12)))
else (some (Sum.inr ((t56.1 + 1), t85.2)))
def gm_feel_L56 (a2 : Int32) (a1 : Int32) (a3 : Int32) : (Int32 × Int32 × zm_S) → Option ((Int32 × Int32 × zm_S) ⊕ (Int32 × zm_S)) := fun t56 =>
(gm_sixes a2).bind fun x7 =>
if t56.2.1 < x7 then ((gm_doesFit t56.2.2 t56.2.1 a1 a2).bind fun p8 =>
(if p8.1 = true then ((zs_loop 5000 (gm_feel_L85 a2 a3 t56) (0, p8.2)).bind fun (r15 : Int32 × zm_S) =>
some (r15.1, r15.2))
else (some (t56.1, p8.2))).bind fun (p9 : Int32 × zm_S) =>
some (Sum.inl (p9.1, (t56.2.1 + 1), p9.2)))
else (some (Sum.inr (t56.1, t56.2.2)))
def gm_feel_L140 (a2 : Int32) (r16 : Int32 × zm_S) : (Int32 × Int32 × Int32) → Option ((Int32 × Int32 × Int32) ⊕ (Int32 × zm_S)) := fun t140 =>
if t140.2.2 < a2 then (if 0 < r16.1 then ((zs_ald 6 (r16.2.2.1 68) t140.2.2).bind fun x17 =>
(zs_ald 6 (r16.2.2.1 68) t140.2.2).bind fun x18 =>
(if (r16.1 - x18) < x17 then ((zs_ald 6 (r16.2.2.1 68) t140.2.2).bind fun x23 =>
some x23)
else ((zs_ald 6 (r16.2.2.1 68) t140.2.2).bind fun x22 =>
some (r16.1 - x22))).bind fun (p19 : Int32) =>
(zs_let (fun (p21 : Unit) => some (t140.2.2, p19)) fun J208 =>
if t140.1 < 0 then (J208 ())
else (if p19 < t140.2.1 then (J208 ())
else (some (t140.1, t140.2.1)))).bind fun (p20 : Int32 × Int32) =>
some (Sum.inl (p20.1, p20.2, (t140.2.2 + 1))))
else (some (Sum.inr (t140.1, r16.2))))
else (some (Sum.inr (t140.1, r16.2)))
def gm_feel (M : zm_S) (a1 : Int32) (a2 : Int32) (a3 : Int32) : Option (Int32 × zm_S) :=
(gm_isAsked M a1 a2).bind fun b1 =>
if b1 = true then ((gm_isMark a3).bind fun b2 =>
if b2 = true then ((gm_copies M).bind fun M3 =>
(gm_fillsPlans M3).bind fun M4 =>
(zs_loop 5000 gm_feel_L29 (0, M4)).bind fun (r6 : zm_S) =>
(zs_loop 50000 (gm_feel_L56 a2 a1 a3) (0, 0, r6)).bind fun (r16 : Int32 × zm_S) =>
(zs_loop 5000 (gm_feel_L140 a2 r16) ((-2), 0, 0)).bind fun z => some z)
else (some ((-1), M)))
else (some ((-1), M))
set_option maxHeartbeats 4000000 in
theorem km_feel (D : zs_D) (h0 : zs_AH) (m : Nat) (M : zm_S) (a1 : Int32) (a2 : Int32) (a3 : Int32) : zs_Con D (zm_R h0 m) zm_bd zs_eI yX10_feel cX10_feel 9 (some .int) 6 [.ref m, .int a1, .int a2, .int a3] M (gm_feel M a1 a2 a3) := by
  unfold gm_feel
  refine zs_con (own := RX10) (nm := "feel") pl_X10 rfl rfl (Nat.le_of_ble_eq_true rfl) ?_
  refine zs_lv (lv' := [(0, .ref m), (1, .int a1), (2, .int a2), (3, .int a3)]) rfl ?_
  refine zs_aload_n (pc := 0) 0 dX10_feel_0 rfl rfl ?_
  refine zs_iload_n (pc := 1) 1 dX10_feel_1 rfl rfl ?_
  refine zs_iload_n (pc := 2) 2 dX10_feel_2 rfl rfl ?_
  refine zs_callVrB (pc := 3) [.int a1, .int a2] [] (km_isAsked D h0 m M a1 a2) kv_isAsked q2188 zc_X10 zm_recv dX10_feel_3 rfl rfl (Nat.le_of_ble_eq_true rfl) (Nat.le_of_ble_eq_true rfl) (fun b1 => ?_)
  refine zs_if_f (pc := 6) (tgt := 16) dX10_feel_6 (by decide) ?_ ?_
  · refine zs_iload_n (pc := 9) 3 dX10_feel_9 rfl rfl ?_
    refine zs_callSrB (pc := 10) [.int a3] [] (km_isMark D _ _ M a3) kv_isMark q2173 dX10_feel_10 rfl rfl (Nat.le_of_ble_eq_true rfl) (Nat.le_of_ble_eq_true rfl) (fun b2 => ?_)
    refine zs_if_t (pc := 13) (tgt := 18) dX10_feel_13 (by decide) ?_ ?_
    · refine zs_aload_n (pc := 18) 0 dX10_feel_18 rfl rfl ?_
      refine zs_callVv (pc := 19) [] [] (km_copies D h0 m M) kv_copies q1873 zc_X10 zm_recv dX10_feel_19 rfl rfl (Nat.le_of_ble_eq_true rfl) (Nat.le_of_ble_eq_true rfl) (fun M3 => ?_)
      refine zs_aload_n (pc := 22) 0 dX10_feel_22 rfl rfl ?_
      refine zs_callVv (pc := 23) [] [] (km_fillsPlans D h0 m M3) kv_fillsPlans q2066 zc_X10 zm_recv dX10_feel_23 rfl rfl (Nat.le_of_ble_eq_true rfl) (Nat.le_of_ble_eq_true rfl) (fun M4 => ?_)
      refine zs_iconst (pc := 26) (v := 0) dX10_feel_26 rfl ?_
      refine zs_istore (pc := 27) (lv' := [(0, .ref m), (1, .int a1), (2, .int a2), (3, .int a3), (4, .int 0)]) [1, 2, 3, 4, 0] dX10_feel_27 (by decide) rfl ?_
      refine zs_whileJ (pc := 29) (fun (t29 : Int32 × zm_S) => t29.2) (fun (t29 : Int32 × zm_S) => [(0, .ref m), (1, .int a1), (2, .int a2), (3, .int a3), (4, .int t29.1)]) 5000 (0, M4) (fun (r6 : zm_S) => r6) 50 (fun (r6 : zm_S) => [(0, .ref m), (1, .int a1), (2, .int a2), (3, .int a3)]) [] (fun r6 => ?_) (fun X29 hL29 hE29 t29 => ?_)
      · refine zs_iconst (pc := 50) (v := 0) dX10_feel_50 rfl ?_
        refine zs_istore (pc := 51) (lv' := [(0, .ref m), (1, .int a1), (2, .int a2), (3, .int a3), (4, .int 0)]) [1, 2, 3, 4, 0] dX10_feel_51 (by decide) rfl ?_
        refine zs_iconst (pc := 53) (v := 0) dX10_feel_53 rfl ?_
        refine zs_istore (pc := 54) (lv' := [(0, .ref m), (1, .int a1), (2, .int a2), (3, .int a3), (4, .int 0), (5, .int 0)]) [1, 2, 3, 4, 5, 0] dX10_feel_54 (by decide) rfl ?_
        refine zs_whileJ (pc := 56) (fun (t56 : Int32 × Int32 × zm_S) => t56.2.2) (fun (t56 : Int32 × Int32 × zm_S) => [(0, .ref m), (1, .int a1), (2, .int a2), (3, .int a3), (4, .int t56.1), (5, .int t56.2.1)]) 50000 (0, 0, r6) (fun (r16 : Int32 × zm_S) => r16.2) 130 (fun (r16 : Int32 × zm_S) => [(0, .ref m), (2, .int a2), (4, .int r16.1)]) [] (fun r16 => ?_) (fun X56 hL56 hE56 t56 => ?_)
        · refine zs_bipush (pc := 130) (v := (-2)) dX10_feel_130 (by decide) ?_
          refine zs_istore (pc := 132) (lv' := [(0, .ref m), (2, .int a2), (4, .int r16.1), (5, .int (-2))]) [1, 2, 3, 0] dX10_feel_132 (by decide) rfl ?_
          refine zs_iconst (pc := 134) (v := 0) dX10_feel_134 rfl ?_
          refine zs_istore (pc := 135) (lv' := [(0, .ref m), (2, .int a2), (4, .int r16.1), (5, .int (-2)), (6, .int 0)]) [1, 2, 3, 4, 0] dX10_feel_135 (by decide) rfl ?_
          refine zs_iconst (pc := 137) (v := 0) dX10_feel_137 rfl ?_
          refine zs_istore (pc := 138) (lv' := [(0, .ref m), (2, .int a2), (4, .int r16.1), (5, .int (-2)), (6, .int 0), (7, .int 0)]) [1, 2, 3, 4, 5, 0] dX10_feel_138 (by decide) rfl ?_
          refine zs_whileX (pc := 140) (fun (t140 : Int32 × Int32 × Int32) => r16.2) (fun (t140 : Int32 × Int32 × Int32) => [(0, .ref m), (2, .int a2), (4, .int r16.1), (5, .int t140.1), (6, .int t140.2.1), (7, .int t140.2.2)]) 5000 ((-2), 0, 0) (fun X140 hL140 hR140 t140 => ?_)
          unfold gm_feel_L140
          refine zs_iload (pc := 140) 5 dX10_feel_140 rfl ?_
          refine zs_iload_n (pc := 142) 1 dX10_feel_142 rfl rfl ?_
          refine zs_icmp_ge (pc := 143) (tgt := 222) dX10_feel_143 (by decide) ?_ ?_
          · refine zs_iload (pc := 146) 2 dX10_feel_146 rfl ?_
            refine zs_if_le (pc := 148) (tgt := 222) dX10_feel_148 (by decide) ?_ ?_
            · refine zs_aload_n (pc := 151) 0 dX10_feel_151 rfl rfl ?_
              refine zm_geta (pc := 152) 68 45 (by decide) rfl q1601 dX10_feel_152 ?_
              refine zs_iload (pc := 155) 5 dX10_feel_155 rfl ?_
              refine zm_iald (pc := 157) 68 45 zm_p68 dX10_feel_157 (fun x17 => ?_)
              refine zs_iload (pc := 158) 2 dX10_feel_158 rfl ?_
              refine zs_aload_n (pc := 160) 0 dX10_feel_160 rfl rfl ?_
              refine zm_geta (pc := 161) 68 45 (by decide) rfl q1601 dX10_feel_161 ?_
              refine zs_iload (pc := 164) 5 dX10_feel_164 rfl ?_
              refine zm_iald (pc := 166) 68 45 zm_p68 dX10_feel_166 (fun x18 => ?_)
              refine zs_isub (pc := 167) dX10_feel_167 ?_
              refine zs_join (pc := 168) (fun (p19 : Int32) => r16.2) 191 (fun (p19 : Int32) => [(0, .ref m), (2, .int a2), (4, .int r16.1), (5, .int t140.1), (6, .int t140.2.1), (7, .int t140.2.2)]) (fun (p19 : Int32) => [.int p19]) (fun p19 => ?_) (fun h191 => ?_)
              · refine zs_istore (pc := 191) (lv' := [(0, .ref m), (2, .int a2), (4, .int r16.1), (5, .int t140.1), (6, .int t140.2.1), (7, .int t140.2.2), (8, .int p19)]) [1, 2, 3, 4, 5, 6, 0] dX10_feel_191 (by decide) rfl ?_
                refine zs_iload (pc := 193) 3 dX10_feel_193 rfl ?_
                refine zs_join (pc := 195) (fun (p20 : Int32 × Int32) => r16.2) 216 (fun (p20 : Int32 × Int32) => [(0, .ref m), (2, .int a2), (4, .int r16.1), (5, .int p20.1), (6, .int p20.2), (7, .int t140.2.2)]) (fun (p20 : Int32 × Int32) => []) (fun p20 => ?_) (fun h216 => ?_)
                · refine zs_iinc (pc := 216) (lv' := [(0, .ref m), (2, .int a2), (4, .int r16.1), (5, .int p20.1), (6, .int p20.2), (7, .int (t140.2.2 + 1))]) 5 [1, 2, 3, 4, 5, 0] dX10_feel_216 rfl rfl (by decide) rfl ?_
                  refine zs_goto (pc := 219) (tgt := 140) dX10_feel_219 (by decide) ?_
                  exact hL140 (p20.1, p20.2, (t140.2.2 + 1))
                · refine zs_letJ (pc := 195) (fun (p21 : Unit) => r16.2) 208 (fun (p21 : Unit) => [(0, .ref m), (2, .int a2), (4, .int r16.1), (7, .int t140.2.2), (8, .int p19)]) (fun (p21 : Unit) => []) (fun p21 => ?_) (fun J208 h208 => ?_)
                  · refine zs_iload (pc := 208) 3 dX10_feel_208 rfl ?_
                    refine zs_istore (pc := 210) (lv' := [(0, .ref m), (2, .int a2), (4, .int r16.1), (5, .int t140.2.2), (7, .int t140.2.2), (8, .int p19)]) [1, 2, 3, 0, 4, 5] dX10_feel_210 (by decide) rfl ?_
                    refine zs_iload (pc := 212) 5 dX10_feel_212 rfl ?_
                    refine zs_istore (pc := 214) (lv' := [(0, .ref m), (2, .int a2), (4, .int r16.1), (5, .int t140.2.2), (6, .int p19), (7, .int t140.2.2), (8, .int p19)]) [1, 2, 3, 4, 0, 5, 6] dX10_feel_214 (by decide) rfl ?_
                    refine zs_sub (lv' := [(0, .ref m), (2, .int a2), (4, .int r16.1), (5, .int t140.2.2), (6, .int p19), (7, .int t140.2.2)]) [0, 1, 2, 3, 4, 5] rfl ?_
                    exact h216 (t140.2.2, p19)
                  · refine zs_if_lt (pc := 195) (tgt := 208) dX10_feel_195 (by decide) ?_ ?_
                    · refine zs_sub (lv' := [(0, .ref m), (2, .int a2), (4, .int r16.1), (7, .int t140.2.2), (8, .int p19)]) [0, 1, 2, 5, 6] rfl ?_
                      exact h208 ()
                    · refine zs_iload (pc := 198) 6 dX10_feel_198 rfl ?_
                      refine zs_iload (pc := 200) 4 dX10_feel_200 rfl ?_
                      refine zs_icmp_lt (pc := 202) (tgt := 208) dX10_feel_202 (by decide) ?_ ?_
                      · refine zs_sub (lv' := [(0, .ref m), (2, .int a2), (4, .int r16.1), (7, .int t140.2.2), (8, .int p19)]) [0, 1, 2, 5, 6] rfl ?_
                        exact h208 ()
                      · refine zs_goto (pc := 205) (tgt := 216) dX10_feel_205 (by decide) ?_
                        refine zs_sub (lv' := [(0, .ref m), (2, .int a2), (4, .int r16.1), (5, .int t140.1), (6, .int t140.2.1), (7, .int t140.2.2)]) [0, 1, 2, 3, 4, 5] rfl ?_
                        exact h216 (t140.1, t140.2.1)
              · refine zs_icmp_le (pc := 168) (tgt := 181) dX10_feel_168 (by decide) ?_ ?_
                · refine zs_aload_n (pc := 171) 0 dX10_feel_171 rfl rfl ?_
                  refine zm_geta (pc := 172) 68 45 (by decide) rfl q1601 dX10_feel_172 ?_
                  refine zs_iload (pc := 175) 5 dX10_feel_175 rfl ?_
                  refine zm_iald (pc := 177) 68 45 zm_p68 dX10_feel_177 (fun x23 => ?_)
                  refine zs_goto (pc := 178) (tgt := 191) dX10_feel_178 (by decide) ?_
                  exact h191 x23
                · refine zs_iload (pc := 181) 2 dX10_feel_181 rfl ?_
                  refine zs_aload_n (pc := 183) 0 dX10_feel_183 rfl rfl ?_
                  refine zm_geta (pc := 184) 68 45 (by decide) rfl q1601 dX10_feel_184 ?_
                  refine zs_iload (pc := 187) 5 dX10_feel_187 rfl ?_
                  refine zm_iald (pc := 189) 68 45 zm_p68 dX10_feel_189 (fun x22 => ?_)
                  refine zs_isub (pc := 190) dX10_feel_190 ?_
                  exact h191 (r16.1 - x22)
            · refine zs_iload (pc := 222) 3 dX10_feel_222 rfl ?_
              exact zs_iret (pc := 224) dX10_feel_224 ((hR140 _).trans rfl) rfl rfl
          · refine zs_iload (pc := 222) 3 dX10_feel_222 rfl ?_
            exact zs_iret (pc := 224) dX10_feel_224 ((hR140 _).trans rfl) rfl rfl
        · unfold gm_feel_L56
          refine zs_iload (pc := 56) 5 dX10_feel_56 rfl ?_
          refine zs_iload_n (pc := 58) 2 dX10_feel_58 rfl rfl ?_
          refine zs_callSrI (pc := 59) [.int a2] [.int t56.2.1] (km_sixes D _ _ t56.2.2 a2) kv_sixes q2192 dX10_feel_59 rfl rfl (Nat.le_of_ble_eq_true rfl) (Nat.le_of_ble_eq_true rfl) (fun x7 => ?_)
          refine zs_icmp_ge (pc := 62) (tgt := 130) dX10_feel_62 (by decide) ?_ ?_
          · refine zs_aload_n (pc := 65) 0 dX10_feel_65 rfl rfl ?_
            refine zs_iload (pc := 66) 5 dX10_feel_66 rfl ?_
            refine zs_iload_n (pc := 68) 1 dX10_feel_68 rfl rfl ?_
            refine zs_iload_n (pc := 69) 2 dX10_feel_69 rfl rfl ?_
            refine zs_callVwB (pc := 70) [.int t56.2.1, .int a1, .int a2] [] (km_doesFit D h0 m t56.2.2 t56.2.1 a1 a2) kv_doesFit q2195 zc_X10 zm_recv dX10_feel_70 rfl rfl (Nat.le_of_ble_eq_true rfl) (Nat.le_of_ble_eq_true rfl) (fun p8 => ?_)
            refine zs_join (pc := 73) (fun (p9 : Int32 × zm_S) => p9.2) 124 (fun (p9 : Int32 × zm_S) => [(0, .ref m), (1, .int a1), (2, .int a2), (3, .int a3), (4, .int p9.1), (5, .int t56.2.1)]) (fun (p9 : Int32 × zm_S) => []) (fun p9 => ?_) (fun h124 => ?_)
            · refine zs_iinc (pc := 124) (lv' := [(0, .ref m), (1, .int a1), (2, .int a2), (3, .int a3), (4, .int p9.1), (5, .int (t56.2.1 + 1))]) 5 [1, 2, 3, 4, 5, 0] dX10_feel_124 rfl rfl (by decide) rfl ?_
              refine zs_goto (pc := 127) (tgt := 56) dX10_feel_127 (by decide) ?_
              exact hL56 (p9.1, (t56.2.1 + 1), p9.2)
            · refine zs_if_t (pc := 73) (tgt := 79) dX10_feel_73 (by decide) ?_ ?_
              · refine zs_iinc (pc := 79) (lv' := [(0, .ref m), (1, .int a1), (2, .int a2), (3, .int a3), (4, .int (t56.1 + 1)), (5, .int t56.2.1)]) 4 [1, 2, 3, 4, 0, 5] dX10_feel_79 rfl rfl (by decide) rfl ?_
                refine zs_iconst (pc := 82) (v := 0) dX10_feel_82 rfl ?_
                refine zs_istore (pc := 83) (lv' := [(0, .ref m), (1, .int a1), (2, .int a2), (3, .int a3), (4, .int (t56.1 + 1)), (5, .int t56.2.1), (6, .int 0)]) [1, 2, 3, 4, 5, 6, 0] dX10_feel_83 (by decide) rfl ?_
                refine zs_whileJ (pc := 85) (fun (t85 : Int32 × zm_S) => t85.2) (fun (t85 : Int32 × zm_S) => [(0, .ref m), (1, .int a1), (2, .int a2), (3, .int a3), (4, .int (t56.1 + 1)), (5, .int t56.2.1), (6, .int t85.1)]) 5000 (0, p8.2) (fun (r15 : Int32 × zm_S) => r15.2) 124 (fun (r15 : Int32 × zm_S) => [(0, .ref m), (1, .int a1), (2, .int a2), (3, .int a3), (4, .int r15.1), (5, .int t56.2.1)]) [] (fun r15 => ?_) (fun X85 hL85 hE85 t85 => ?_)
                · exact h124 (r15.1, r15.2)
                · unfold gm_feel_L85
                  refine zs_iload (pc := 85) 6 dX10_feel_85 rfl ?_
                  refine zs_iload_n (pc := 87) 2 dX10_feel_87 rfl rfl ?_
                  refine zs_icmp_ge (pc := 88) (tgt := 124) dX10_feel_88 (by decide) ?_ ?_
                  · refine zs_aload_n (pc := 91) 0 dX10_feel_91 rfl rfl ?_
                    refine zm_geta (pc := 92) 56 35 (by decide) rfl q1589 dX10_feel_92 ?_
                    refine zs_aload_n (pc := 95) 0 dX10_feel_95 rfl rfl ?_
                    refine zm_geta (pc := 96) 67 44 (by decide) rfl q1600 dX10_feel_96 ?_
                    refine zs_iload (pc := 99) 6 dX10_feel_99 rfl ?_
                    refine zm_iald (pc := 101) 67 44 zm_p67 dX10_feel_101 (fun x10 => ?_)
                    refine zm_iald (pc := 102) 56 35 zm_p56 dX10_feel_102 (fun x11 => ?_)
                    refine zs_iload_n (pc := 103) 3 dX10_feel_103 rfl rfl ?_
                    refine zs_join (pc := 104) (fun (p12 : zm_S) => p12) 118 (fun (p12 : zm_S) => [(0, .ref m), (1, .int a1), (2, .int a2), (3, .int a3), (4, .int (t56.1 + 1)), (5, .int t56.2.1), (6, .int t85.1)]) (fun (p12 : zm_S) => []) (fun p12 => ?_) (fun h118 => ?_)
                    · refine zs_iinc (pc := 118) (lv' := [(0, .ref m), (1, .int a1), (2, .int a2), (3, .int a3), (4, .int (t56.1 + 1)), (5, .int t56.2.1), (6, .int (t85.1 + 1))]) 6 [1, 2, 3, 4, 5, 6, 0] dX10_feel_118 rfl rfl (by decide) rfl ?_
                      refine zs_goto (pc := 121) (tgt := 85) dX10_feel_121 (by decide) ?_
                      exact hL85 ((t85.1 + 1), p12)
                    · refine zs_icmp_lt (pc := 104) (tgt := 118) dX10_feel_104 (by decide) ?_ ?_
                      · exact h118 t85.2
                      · refine zs_aload_n (pc := 107) 0 dX10_feel_107 rfl rfl ?_
                        refine zm_geta (pc := 108) 68 45 (by decide) rfl q1601 dX10_feel_108 ?_
                        refine zs_iload (pc := 111) 6 dX10_feel_111 rfl ?_
                        refine zs_dup2 (pc := 113) dX10_feel_113 rfl rfl ?_
                        refine zm_iald (pc := 114) 68 45 zm_p68 dX10_feel_114 (fun x13 => ?_)
                        refine zs_iconst (pc := 115) (v := 1) dX10_feel_115 rfl ?_
                        refine zs_iadd (pc := 116) dX10_feel_116 ?_
                        refine zm_iast (pc := 117) 68 45 zm_p68 dX10_feel_117 (fun M14 => ?_)
                        exact h118 M14
                  · refine zs_sub (lv' := [(0, .ref m), (1, .int a1), (2, .int a2), (3, .int a3), (4, .int (t56.1 + 1)), (5, .int t56.2.1)]) [0, 1, 2, 3, 4, 5] rfl ?_
                    exact hE85 ((t56.1 + 1), t85.2)
              · refine zs_goto (pc := 76) (tgt := 124) dX10_feel_76 (by decide) ?_
                exact h124 (t56.1, p8.2)
          · refine zs_sub (lv' := [(0, .ref m), (2, .int a2), (4, .int t56.1)]) [0, 2, 4] rfl ?_
            exact hE56 (t56.1, t56.2.2)
      · unfold gm_feel_L29
        refine zs_iload (pc := 29) 4 dX10_feel_29 rfl ?_
        refine zs_bipush (pc := 31) (v := 6) dX10_feel_31 (by decide) ?_
        refine zs_icmp_ge (pc := 33) (tgt := 50) dX10_feel_33 (by decide) ?_ ?_
        · refine zs_aload_n (pc := 36) 0 dX10_feel_36 rfl rfl ?_
          refine zm_geta (pc := 37) 68 45 (by decide) rfl q1601 dX10_feel_37 ?_
          refine zs_iload (pc := 40) 4 dX10_feel_40 rfl ?_
          refine zs_iconst (pc := 42) (v := 0) dX10_feel_42 rfl ?_
          refine zm_iast (pc := 43) 68 45 zm_p68 dX10_feel_43 (fun M5 => ?_)
          refine zs_iinc (pc := 44) (lv' := [(0, .ref m), (1, .int a1), (2, .int a2), (3, .int a3), (4, .int (t29.1 + 1))]) 4 [1, 2, 3, 4, 0] dX10_feel_44 rfl rfl (by decide) rfl ?_
          refine zs_goto (pc := 47) (tgt := 29) dX10_feel_47 (by decide) ?_
          exact hL29 ((t29.1 + 1), M5)
        · refine zs_sub (lv' := [(0, .ref m), (1, .int a1), (2, .int a2), (3, .int a3)]) [0, 1, 2, 3] rfl ?_
          exact hE29 t29.2
    · refine zs_iconst (pc := 16) (v := (-1)) dX10_feel_16 rfl ?_
      exact zs_iret (pc := 17) dX10_feel_17 rfl rfl rfl
  · refine zs_iconst (pc := 16) (v := (-1)) dX10_feel_16 rfl ?_
    exact zs_iret (pc := 17) dX10_feel_17 rfl rfl rfl
theorem kv_hold : zs_mV RX10 yX10_hold cX10_hold 3 (some .boolean) 1 := ⟨q2204, q2205, q152, q2206, by decide, by decide +kernel⟩
def gm_hold_L20 (a1 : Int32) : (Int32 × zm_S) → Option ((Int32 × zm_S) ⊕ (Bool × zm_S)) := fun t20 =>
if t20.1 < 33 then ((zs_ald 33 (t20.2.2.1 47) t20.1).bind fun x3 =>
(zs_ast 99 ((33 * a1) + t20.1) (zm_sA t20.2 70 ((33 * a1) + t20.1) x3)).bind fun M4 =>
some (Sum.inl ((t20.1 + 1), M4)))
else (some (Sum.inr (true, t20.2)))
def gm_hold (M : zm_S) (a1 : Int32) : Option (Bool × zm_S) :=
(gm_in a1 0 2).bind fun b1 =>
if b1 = true then ((zs_ast 3 a1 (zm_sA M 69 a1 (vp_nar .boolean 1))).bind fun M2 =>
(zs_loop 5000 (gm_hold_L20 a1) (0, M2)).bind fun z => some z)
else (some (false, M))
set_option maxHeartbeats 4000000 in
theorem km_hold (D : zs_D) (h0 : zs_AH) (m : Nat) (M : zm_S) (a1 : Int32) : zs_Con D (zm_R h0 m) zm_bd zs_eB yX10_hold cX10_hold 3 (some .boolean) 1 [.ref m, .int a1] M (gm_hold M a1) := by
  unfold gm_hold
  refine zs_con (own := RX10) (nm := "hold") pl_X10 rfl rfl (Nat.le_of_ble_eq_true rfl) ?_
  refine zs_lv (lv' := [(0, .ref m), (1, .int a1)]) rfl ?_
  refine zs_iload_n (pc := 0) 1 dX10_hold_0 rfl rfl ?_
  refine zs_iconst (pc := 1) (v := 0) dX10_hold_1 rfl ?_
  refine zs_iconst (pc := 2) (v := 2) dX10_hold_2 rfl ?_
  refine zs_callSrB (pc := 3) [.int a1, .int 0, .int 2] [] (km_in D _ _ M a1 0 2) kv_in q1870 dX10_hold_3 rfl rfl (Nat.le_of_ble_eq_true rfl) (Nat.le_of_ble_eq_true rfl) (fun b1 => ?_)
  refine zs_if_t (pc := 6) (tgt := 11) dX10_hold_6 (by decide) ?_ ?_
  · refine zs_aload_n (pc := 11) 0 dX10_hold_11 rfl rfl ?_
    refine zm_geta (pc := 12) 69 46 (by decide) rfl q1602 dX10_hold_12 ?_
    refine zs_iload_n (pc := 15) 1 dX10_hold_15 rfl rfl ?_
    refine zs_iconst (pc := 16) (v := 1) dX10_hold_16 rfl ?_
    refine zm_zast (pc := 17) 69 46 zm_p69 dX10_hold_17 (fun M2 => ?_)
    refine zs_iconst (pc := 18) (v := 0) dX10_hold_18 rfl ?_
    refine zs_istore_n (pc := 19) (lv' := [(0, .ref m), (1, .int a1), (2, .int 0)]) [1, 2, 0] dX10_hold_19 rfl (by decide) rfl ?_
    refine zs_whileX (pc := 20) (fun (t20 : Int32 × zm_S) => t20.2) (fun (t20 : Int32 × zm_S) => [(0, .ref m), (1, .int a1), (2, .int t20.1)]) 5000 (0, M2) (fun X20 hL20 hR20 t20 => ?_)
    unfold gm_hold_L20
    refine zs_iload_n (pc := 20) 2 dX10_hold_20 rfl rfl ?_
    refine zs_bipush (pc := 21) (v := 33) dX10_hold_21 (by decide) ?_
    refine zs_icmp_ge (pc := 23) (tgt := 49) dX10_hold_23 (by decide) ?_ ?_
    · refine zs_aload_n (pc := 26) 0 dX10_hold_26 rfl rfl ?_
      refine zm_geta (pc := 27) 70 47 (by decide) rfl q1603 dX10_hold_27 ?_
      refine zs_bipush (pc := 30) (v := 33) dX10_hold_30 (by decide) ?_
      refine zs_iload_n (pc := 32) 1 dX10_hold_32 rfl rfl ?_
      refine zs_imul (pc := 33) dX10_hold_33 ?_
      refine zs_iload_n (pc := 34) 2 dX10_hold_34 rfl rfl ?_
      refine zs_iadd (pc := 35) dX10_hold_35 ?_
      refine zs_aload_n (pc := 36) 0 dX10_hold_36 rfl rfl ?_
      refine zm_geta (pc := 37) 47 29 (by decide) rfl q1580 dX10_hold_37 ?_
      refine zs_iload_n (pc := 40) 2 dX10_hold_40 rfl rfl ?_
      refine zm_iald (pc := 41) 47 29 zm_p47 dX10_hold_41 (fun x3 => ?_)
      refine zm_iast (pc := 42) 70 47 zm_p70 dX10_hold_42 (fun M4 => ?_)
      refine zs_iinc (pc := 43) (lv' := [(0, .ref m), (1, .int a1), (2, .int (t20.1 + 1))]) 2 [1, 2, 0] dX10_hold_43 rfl rfl (by decide) rfl ?_
      refine zs_goto (pc := 46) (tgt := 20) dX10_hold_46 (by decide) ?_
      exact hL20 ((t20.1 + 1), M4)
    · refine zs_iconst (pc := 49) (v := 1) dX10_hold_49 rfl ?_
      exact zs_iret (pc := 50) dX10_hold_50 ((hR20 _).trans rfl) rfl rfl
  · refine zs_iconst (pc := 9) (v := 0) dX10_hold_9 rfl ?_
    exact zs_iret (pc := 10) dX10_hold_10 rfl rfl rfl
theorem kv_restore : zs_mV RX10 yX10_restore cX10_restore 3 (some .boolean) 1 := ⟨q2208, q2209, q152, q2210, by decide, by decide +kernel⟩
def gm_restore_L22 (a1 : Int32) : (Int32 × zm_S) → Option ((Int32 × zm_S) ⊕ (zm_S)) := fun t22 =>
if t22.1 < 33 then ((zs_ald 99 (t22.2.2.1 70) ((33 * a1) + t22.1)).bind fun x3 =>
(zs_ast 33 t22.1 (zm_sA t22.2 47 t22.1 x3)).bind fun M4 =>
some (Sum.inl ((t22.1 + 1), M4)))
else (some (Sum.inr t22.2))
def gm_restore (M : zm_S) (a1 : Int32) : Option (Bool × zm_S) :=
(gm_in a1 0 2).bind fun b1 =>
if b1 = true then ((zs_ald 3 (M.2.1 69) a1).bind fun x2 =>
if x2 = 0 then (some (false, M))
else ((zs_loop 5000 (gm_restore_L22 a1) (0, M)).bind fun (r5 : zm_S) =>
(some (zm_sF r5 53 0)).bind fun M6 =>
some (true, M6)))
else (some (false, M))
set_option maxHeartbeats 4000000 in
theorem km_restore (D : zs_D) (h0 : zs_AH) (m : Nat) (M : zm_S) (a1 : Int32) : zs_Con D (zm_R h0 m) zm_bd zs_eB yX10_restore cX10_restore 3 (some .boolean) 1 [.ref m, .int a1] M (gm_restore M a1) := by
  unfold gm_restore
  refine zs_con (own := RX10) (nm := "restore") pl_X10 rfl rfl (Nat.le_of_ble_eq_true rfl) ?_
  refine zs_lv (lv' := [(0, .ref m), (1, .int a1)]) rfl ?_
  refine zs_iload_n (pc := 0) 1 dX10_restore_0 rfl rfl ?_
  refine zs_iconst (pc := 1) (v := 0) dX10_restore_1 rfl ?_
  refine zs_iconst (pc := 2) (v := 2) dX10_restore_2 rfl ?_
  refine zs_callSrB (pc := 3) [.int a1, .int 0, .int 2] [] (km_in D _ _ M a1 0 2) kv_in q1870 dX10_restore_3 rfl rfl (Nat.le_of_ble_eq_true rfl) (Nat.le_of_ble_eq_true rfl) (fun b1 => ?_)
  refine zs_if_f (pc := 6) (tgt := 18) dX10_restore_6 (by decide) ?_ ?_
  · refine zs_aload_n (pc := 9) 0 dX10_restore_9 rfl rfl ?_
    refine zm_geta (pc := 10) 69 46 (by decide) rfl q1602 dX10_restore_10 ?_
    refine zs_iload_n (pc := 13) 1 dX10_restore_13 rfl rfl ?_
    refine zm_zald (pc := 14) 69 46 zm_p69 dX10_restore_14 (fun x2 => ?_)
    refine zs_if_ne (pc := 15) (tgt := 20) dX10_restore_15 (by decide) ?_ ?_
    · refine zs_iconst (pc := 18) (v := 0) dX10_restore_18 rfl ?_
      exact zs_iret (pc := 19) dX10_restore_19 rfl rfl rfl
    · refine zs_iconst (pc := 20) (v := 0) dX10_restore_20 rfl ?_
      refine zs_istore_n (pc := 21) (lv' := [(0, .ref m), (1, .int a1), (2, .int 0)]) [1, 2, 0] dX10_restore_21 rfl (by decide) rfl ?_
      refine zs_whileJ (pc := 22) (fun (t22 : Int32 × zm_S) => t22.2) (fun (t22 : Int32 × zm_S) => [(0, .ref m), (1, .int a1), (2, .int t22.1)]) 5000 (0, M) (fun (r5 : zm_S) => r5) 51 (fun (r5 : zm_S) => [(0, .ref m)]) [] (fun r5 => ?_) (fun X22 hL22 hE22 t22 => ?_)
      · refine zs_aload_n (pc := 51) 0 dX10_restore_51 rfl rfl ?_
        refine zs_iconst (pc := 52) (v := 0) dX10_restore_52 rfl ?_
        refine zm_puti (pc := 53) 53 (by decide) rfl q1586 rfl rfl rfl dX10_restore_53 ?_
        refine zs_nmM (fun M6 => ?_)
        refine zs_iconst (pc := 56) (v := 1) dX10_restore_56 rfl ?_
        exact zs_iret (pc := 57) dX10_restore_57 rfl rfl rfl
      · unfold gm_restore_L22
        refine zs_iload_n (pc := 22) 2 dX10_restore_22 rfl rfl ?_
        refine zs_bipush (pc := 23) (v := 33) dX10_restore_23 (by decide) ?_
        refine zs_icmp_ge (pc := 25) (tgt := 51) dX10_restore_25 (by decide) ?_ ?_
        · refine zs_aload_n (pc := 28) 0 dX10_restore_28 rfl rfl ?_
          refine zm_geta (pc := 29) 47 29 (by decide) rfl q1580 dX10_restore_29 ?_
          refine zs_iload_n (pc := 32) 2 dX10_restore_32 rfl rfl ?_
          refine zs_aload_n (pc := 33) 0 dX10_restore_33 rfl rfl ?_
          refine zm_geta (pc := 34) 70 47 (by decide) rfl q1603 dX10_restore_34 ?_
          refine zs_bipush (pc := 37) (v := 33) dX10_restore_37 (by decide) ?_
          refine zs_iload_n (pc := 39) 1 dX10_restore_39 rfl rfl ?_
          refine zs_imul (pc := 40) dX10_restore_40 ?_
          refine zs_iload_n (pc := 41) 2 dX10_restore_41 rfl rfl ?_
          refine zs_iadd (pc := 42) dX10_restore_42 ?_
          refine zm_iald (pc := 43) 70 47 zm_p70 dX10_restore_43 (fun x3 => ?_)
          refine zm_iast (pc := 44) 47 29 zm_p47 dX10_restore_44 (fun M4 => ?_)
          refine zs_iinc (pc := 45) (lv' := [(0, .ref m), (1, .int a1), (2, .int (t22.1 + 1))]) 2 [1, 2, 0] dX10_restore_45 rfl rfl (by decide) rfl ?_
          refine zs_goto (pc := 48) (tgt := 22) dX10_restore_48 (by decide) ?_
          exact hL22 ((t22.1 + 1), M4)
        · refine zs_sub (lv' := [(0, .ref m)]) [0] rfl ?_
          exact hE22 t22.2
  · refine zs_iconst (pc := 18) (v := 0) dX10_restore_18 rfl ?_
    exact zs_iret (pc := 19) dX10_restore_19 rfl rfl rfl
theorem kv_sumNow : zs_mV RX10 yX10_sumNow cX10_sumNow 4 (some .int) 1 := ⟨q2217, qs132, q152, q2218, by decide, by decide +kernel⟩
def gm_sumNow_L4 (a1 : Int32) (M : zm_S) : (Int32 × Int32) → Option ((Int32 × Int32) ⊕ (Int32)) := fun t4 =>
if t4.2 < (a1 + 6) then ((zs_ald 33 (M.2.1 47) t4.2).bind fun x1 =>
(some (t4.1 + x1)).bind fun x2 =>
some (Sum.inl (x2, (t4.2 + 1))))
else (some (Sum.inr t4.1))
def gm_sumNow (M : zm_S) (a1 : Int32) : Option (Int32) :=
(zs_loop 5000 (gm_sumNow_L4 a1 M) (0, a1)).bind fun z => some z
set_option maxHeartbeats 4000000 in
theorem km_sumNow (D : zs_D) (h0 : zs_AH) (m : Nat) (M : zm_S) (a1 : Int32) : zs_Con D (zm_R h0 m) zm_bd zs_eI yX10_sumNow cX10_sumNow 4 (some .int) 0 [.ref m, .int a1] M ((gm_sumNow M a1).map fun x => (x, M)) := by
  unfold gm_sumNow
  refine zs_conR (own := RX10) (nm := "sumNow") pl_X10 rfl rfl (Nat.le_of_ble_eq_true rfl) ?_
  refine zs_lv (lv' := [(0, .ref m), (1, .int a1)]) rfl ?_
  refine zs_iconst (pc := 0) (v := 0) dX10_sumNow_0 rfl ?_
  refine zs_istore_n (pc := 1) (lv' := [(0, .ref m), (1, .int a1), (2, .int 0)]) [1, 2, 0] dX10_sumNow_1 rfl (by decide) rfl ?_
  refine zs_iload_n (pc := 2) 1 dX10_sumNow_2 rfl rfl ?_
  refine zs_istore_n (pc := 3) (lv' := [(0, .ref m), (1, .int a1), (2, .int 0), (3, .int a1)]) [1, 2, 3, 0] dX10_sumNow_3 rfl (by decide) rfl ?_
  refine zs_whileX (pc := 4) (fun (t4 : Int32 × Int32) => M) (fun (t4 : Int32 × Int32) => [(0, .ref m), (1, .int a1), (2, .int t4.1), (3, .int t4.2)]) 5000 (0, a1) (fun X4 hL4 hR4 t4 => ?_)
  unfold gm_sumNow_L4
  refine zs_iload_n (pc := 4) 3 dX10_sumNow_4 rfl rfl ?_
  refine zs_iload_n (pc := 5) 1 dX10_sumNow_5 rfl rfl ?_
  refine zs_bipush (pc := 6) (v := 6) dX10_sumNow_6 (by decide) ?_
  refine zs_iadd (pc := 8) dX10_sumNow_8 ?_
  refine zs_icmp_ge (pc := 9) (tgt := 27) dX10_sumNow_9 (by decide) ?_ ?_
  · refine zs_iload_n (pc := 12) 2 dX10_sumNow_12 rfl rfl ?_
    refine zs_aload_n (pc := 13) 0 dX10_sumNow_13 rfl rfl ?_
    refine zm_geta (pc := 14) 47 29 (by decide) rfl q1580 dX10_sumNow_14 ?_
    refine zs_iload_n (pc := 17) 3 dX10_sumNow_17 rfl rfl ?_
    refine zm_iald (pc := 18) 47 29 zm_p47 dX10_sumNow_18 (fun x1 => ?_)
    refine zs_iadd (pc := 19) dX10_sumNow_19 ?_
    refine zs_nm (fun x2 => ?_)
    refine zs_istore_n (pc := 20) (lv' := [(0, .ref m), (1, .int a1), (2, .int x2), (3, .int t4.2)]) [1, 2, 0, 3] dX10_sumNow_20 rfl (by decide) rfl ?_
    refine zs_iinc (pc := 21) (lv' := [(0, .ref m), (1, .int a1), (2, .int x2), (3, .int (t4.2 + 1))]) 3 [1, 2, 3, 0] dX10_sumNow_21 rfl rfl (by decide) rfl ?_
    refine zs_goto (pc := 24) (tgt := 4) dX10_sumNow_24 (by decide) ?_
    exact hL4 (x2, (t4.2 + 1))
  · refine zs_iload_n (pc := 27) 2 dX10_sumNow_27 rfl rfl ?_
    exact zs_iret (pc := 28) dX10_sumNow_28 ((hR4 _).trans rfl) rfl rfl
theorem kv_count : zs_mV RX10 yX10_count cX10_count 4 (some .int) 1 := ⟨q2212, q2213, q152, q2214, by decide, by decide +kernel⟩
def gm_count_L145 (M1 : zm_S) : (Int32 × Int32) → Option ((Int32 × Int32) ⊕ (Int32 × zm_S)) := fun t145 =>
(zs_ald 2 (M1.2.1 22) (M1.1 18)).bind fun x9 =>
if t145.2 < x9 then ((gm_hasPlait M1 t145.2).bind fun b10 =>
(if b10 = true then ((some (t145.1 ||| (zs_shl 1 t145.2))).bind fun x12 =>
some x12)
else (some t145.1)).bind fun (p11 : Int32) =>
some (Sum.inl (p11, (t145.2 + 1))))
else (some (Sum.inr (t145.1, M1)))
def gm_count_L281 (M1 : zm_S) : (Int32 × Int32) → Option ((Int32 × Int32) ⊕ (Int32 × zm_S)) := fun t281 =>
(zs_ald 2 (M1.2.1 22) (M1.1 18)).bind fun x22 =>
if t281.2 < x22 then ((zs_ald 33 (M1.2.1 48) t281.2).bind fun x23 =>
(if x23 = 0 then ((some (t281.1 ||| (zs_shl 1 t281.2))).bind fun x25 =>
some x25)
else (some t281.1)).bind fun (p24 : Int32) =>
some (Sum.inl (p24, (t281.2 + 1))))
else (some (Sum.inr (t281.1, M1)))
def gm_count (M : zm_S) (a1 : Int32) : Option (Int32 × zm_S) :=
(gm_copies M).bind fun M1 =>
if a1 = 0 then ((zs_ald 2 (M1.2.1 22) (M1.1 18)).bind fun x2 =>
some (x2, M1))
else if a1 = 1 then ((zs_ald 2 (M1.2.1 27) (M1.1 18)).bind fun x3 =>
some (x3, M1))
else if a1 = 2 then ((zs_ald 33 (M1.2.1 48) 31).bind fun x4 =>
some (x4, M1))
else if a1 = 3 then ((zs_ald 33 (M1.2.1 48) 24).bind fun x5 =>
some (x5, M1))
else if a1 = 4 then ((gm_ropeLong M1).bind fun x6 =>
some (x6, M1))
else if a1 = 5 then ((zs_ald 33 (M1.2.1 48) 32).bind fun x7 =>
some (x7, M1))
else if a1 = 6 then ((gm_sumNow M1 0).bind fun x8 =>
some (x8, M1))
else if a1 = 7 then ((zs_loop 5000 (gm_count_L145 M1) (0, 0)).bind fun z => some z)
else if a1 = 8 then (some ((M1.1 2), M1))
else if a1 = 9 then (some ((M1.1 53), M1))
else if a1 = 10 then (some ((M1.1 63), M1))
else if a1 = 11 then ((zs_ald 3 (M1.2.1 69) 0).bind fun x13 =>
(if x13 = 0 then (some 0)
else (some 1)).bind fun (p14 : Int32) =>
(zs_ald 3 (M1.2.1 69) 1).bind fun x15 =>
(if x15 = 0 then (some 0)
else (some 1)).bind fun (p16 : Int32) =>
(zs_ald 3 (M1.2.1 69) 2).bind fun x17 =>
if x17 = 0 then (some (((p14 + p16) + 0), M1))
else (some (((p14 + p16) + 1), M1)))
else if a1 = 12 then ((gm_ropeLong M1).bind fun x18 =>
(zs_ald 2 (M1.2.1 27) (M1.1 18)).bind fun x19 =>
if x18 < x19 then (some (0, M1))
else (some (1, M1)))
else if a1 = 13 then ((zs_ald 2 (M1.2.1 28) (M1.1 18)).bind fun x20 =>
some (x20, M1))
else if a1 = 14 then ((gm_sumNow M1 18).bind fun x21 =>
some (x21, M1))
else if a1 = 15 then ((zs_loop 5000 (gm_count_L281 M1) (0, 0)).bind fun z => some z)
else if a1 = 16 then ((gm_sumNow M1 12).bind fun x26 =>
some (x26, M1))
else (some ((-1), M1))
set_option maxHeartbeats 4000000 in
theorem km_count (D : zs_D) (h0 : zs_AH) (m : Nat) (M : zm_S) (a1 : Int32) : zs_Con D (zm_R h0 m) zm_bd zs_eI yX10_count cX10_count 4 (some .int) 1 [.ref m, .int a1] M (gm_count M a1) := by
  unfold gm_count
  refine zs_con (own := RX10) (nm := "count") pl_X10 rfl rfl (Nat.le_of_ble_eq_true rfl) ?_
  refine zs_lv (lv' := [(0, .ref m), (1, .int a1)]) rfl ?_
  refine zs_aload_n (pc := 0) 0 dX10_count_0 rfl rfl ?_
  refine zs_callVv (pc := 1) [] [] (km_copies D h0 m M) kv_copies q1873 zc_X10 zm_recv dX10_count_1 rfl rfl (Nat.le_of_ble_eq_true rfl) (Nat.le_of_ble_eq_true rfl) (fun M1 => ?_)
  refine zs_iconst (pc := 4) (v := 0) dX10_count_4 rfl ?_
  refine zs_istore_n (pc := 5) (lv' := [(0, .ref m), (1, .int a1), (2, .int 0)]) [1, 2, 0] dX10_count_5 rfl (by decide) rfl ?_
  refine zs_iload_n (pc := 6) 1 dX10_count_6 rfl rfl ?_
  refine zs_tsw (pc := 7) [(0, 88), (1, 98), (2, 108), (3, 116), (4, 124), (5, 129), (6, 137), (7, 143), (8, 180), (9, 185), (10, 190), (11, 195), (12, 240), (13, 262), (14, 272), (15, 279), (16, 317)] 324 dX10_count_7 (by decide +kernel) ?_
  refine zs_case ?_ ?_
  · refine zs_aload_n (pc := 88) 0 dX10_count_88 rfl rfl ?_
    refine zm_geta (pc := 89) 22 8 (by decide) rfl q1555 dX10_count_89 ?_
    refine zs_aload_n (pc := 92) 0 dX10_count_92 rfl rfl ?_
    refine zm_geti (pc := 93) 18 (by decide) rfl q1551 dX10_count_93 ?_
    refine zm_iald (pc := 96) 22 8 zm_p22 dX10_count_96 (fun x2 => ?_)
    exact zs_iret (pc := 97) dX10_count_97 rfl rfl rfl
  refine zs_case ?_ ?_
  · refine zs_aload_n (pc := 98) 0 dX10_count_98 rfl rfl ?_
    refine zm_geta (pc := 99) 27 13 (by decide) rfl q1560 dX10_count_99 ?_
    refine zs_aload_n (pc := 102) 0 dX10_count_102 rfl rfl ?_
    refine zm_geti (pc := 103) 18 (by decide) rfl q1551 dX10_count_103 ?_
    refine zm_iald (pc := 106) 27 13 zm_p27 dX10_count_106 (fun x3 => ?_)
    exact zs_iret (pc := 107) dX10_count_107 rfl rfl rfl
  refine zs_case ?_ ?_
  · refine zs_aload_n (pc := 108) 0 dX10_count_108 rfl rfl ?_
    refine zm_geta (pc := 109) 48 30 (by decide) rfl q1581 dX10_count_109 ?_
    refine zs_bipush (pc := 112) (v := 31) dX10_count_112 (by decide) ?_
    refine zm_iald (pc := 114) 48 30 zm_p48 dX10_count_114 (fun x4 => ?_)
    exact zs_iret (pc := 115) dX10_count_115 rfl rfl rfl
  refine zs_case ?_ ?_
  · refine zs_aload_n (pc := 116) 0 dX10_count_116 rfl rfl ?_
    refine zm_geta (pc := 117) 48 30 (by decide) rfl q1581 dX10_count_117 ?_
    refine zs_bipush (pc := 120) (v := 24) dX10_count_120 (by decide) ?_
    refine zm_iald (pc := 122) 48 30 zm_p48 dX10_count_122 (fun x5 => ?_)
    exact zs_iret (pc := 123) dX10_count_123 rfl rfl rfl
  refine zs_case ?_ ?_
  · refine zs_aload_n (pc := 124) 0 dX10_count_124 rfl rfl ?_
    refine zs_callVrI (pc := 125) [] [] (km_ropeLong D h0 m M1) kv_ropeLong q1956 zc_X10 zm_recv dX10_count_125 rfl rfl (Nat.le_of_ble_eq_true rfl) (Nat.le_of_ble_eq_true rfl) (fun x6 => ?_)
    exact zs_iret (pc := 128) dX10_count_128 rfl rfl rfl
  refine zs_case ?_ ?_
  · refine zs_aload_n (pc := 129) 0 dX10_count_129 rfl rfl ?_
    refine zm_geta (pc := 130) 48 30 (by decide) rfl q1581 dX10_count_130 ?_
    refine zs_bipush (pc := 133) (v := 32) dX10_count_133 (by decide) ?_
    refine zm_iald (pc := 135) 48 30 zm_p48 dX10_count_135 (fun x7 => ?_)
    exact zs_iret (pc := 136) dX10_count_136 rfl rfl rfl
  refine zs_case ?_ ?_
  · refine zs_aload_n (pc := 137) 0 dX10_count_137 rfl rfl ?_
    refine zs_iconst (pc := 138) (v := 0) dX10_count_138 rfl ?_
    refine zs_callVrI (pc := 139) [.int 0] [] (km_sumNow D h0 m M1 0) kv_sumNow q2215 zc_X10 zm_recv dX10_count_139 rfl rfl (Nat.le_of_ble_eq_true rfl) (Nat.le_of_ble_eq_true rfl) (fun x8 => ?_)
    exact zs_iret (pc := 142) dX10_count_142 rfl rfl rfl
  refine zs_case ?_ ?_
  · refine zs_iconst (pc := 143) (v := 0) dX10_count_143 rfl ?_
    refine zs_istore_n (pc := 144) (lv' := [(0, .ref m), (1, .int a1), (2, .int 0), (3, .int 0)]) [1, 2, 3, 0] dX10_count_144 rfl (by decide) rfl ?_
    refine zs_sub (pc := 145) (lv' := [(0, .ref m), (2, .int 0), (3, .int 0)]) [0, 2, 3] rfl ?_
    refine zs_whileX (pc := 145) (fun (t145 : Int32 × Int32) => M1) (fun (t145 : Int32 × Int32) => [(0, .ref m), (2, .int t145.1), (3, .int t145.2)]) 5000 (0, 0) (fun X145 hL145 hR145 t145 => ?_)
    unfold gm_count_L145
    refine zs_iload_n (pc := 145) 2 dX10_count_145 rfl rfl ?_
    refine zs_aload_n (pc := 146) 0 dX10_count_146 rfl rfl ?_
    refine zm_geta (pc := 147) 22 8 (by decide) rfl q1555 dX10_count_147 ?_
    refine zs_aload_n (pc := 150) 0 dX10_count_150 rfl rfl ?_
    refine zm_geti (pc := 151) 18 (by decide) rfl q1551 dX10_count_151 ?_
    refine zm_iald (pc := 154) 22 8 zm_p22 dX10_count_154 (fun x9 => ?_)
    refine zs_icmp_ge (pc := 155) (tgt := 178) dX10_count_155 (by decide) ?_ ?_
    · refine zs_aload_n (pc := 158) 0 dX10_count_158 rfl rfl ?_
      refine zs_iload_n (pc := 159) 2 dX10_count_159 rfl rfl ?_
      refine zs_callVrB (pc := 160) [.int t145.2] [] (km_hasPlait D h0 m M1 t145.2) kv_hasPlait q1881 zc_X10 zm_recv dX10_count_160 rfl rfl (Nat.le_of_ble_eq_true rfl) (Nat.le_of_ble_eq_true rfl) (fun b10 => ?_)
      refine zs_join (pc := 163) (fun (p11 : Int32) => M1) 172 (fun (p11 : Int32) => [(0, .ref m), (2, .int p11), (3, .int t145.2)]) (fun (p11 : Int32) => []) (fun p11 => ?_) (fun h172 => ?_)
      · refine zs_iinc (pc := 172) (lv' := [(0, .ref m), (2, .int p11), (3, .int (t145.2 + 1))]) 2 [1, 2, 0] dX10_count_172 rfl rfl (by decide) rfl ?_
        refine zs_goto (pc := 175) (tgt := 145) dX10_count_175 (by decide) ?_
        exact hL145 (p11, (t145.2 + 1))
      · refine zs_if_f (pc := 163) (tgt := 172) dX10_count_163 (by decide) ?_ ?_
        · refine zs_iload_n (pc := 166) 1 dX10_count_166 rfl rfl ?_
          refine zs_iconst (pc := 167) (v := 1) dX10_count_167 rfl ?_
          refine zs_iload_n (pc := 168) 2 dX10_count_168 rfl rfl ?_
          refine zs_ishl (pc := 169) dX10_count_169 ?_
          refine zs_ior (pc := 170) dX10_count_170 ?_
          refine zs_nm (fun x12 => ?_)
          refine zs_istore_n (pc := 171) (lv' := [(0, .ref m), (2, .int x12), (3, .int t145.2)]) [1, 0, 2] dX10_count_171 rfl (by decide) rfl ?_
          exact h172 x12
        · exact h172 t145.1
    · refine zs_iload_n (pc := 178) 1 dX10_count_178 rfl rfl ?_
      exact zs_iret (pc := 179) dX10_count_179 ((hR145 _).trans rfl) rfl rfl
  refine zs_case ?_ ?_
  · refine zs_aload_n (pc := 180) 0 dX10_count_180 rfl rfl ?_
    refine zm_geti (pc := 181) 2 (by decide) rfl q1535 dX10_count_181 ?_
    exact zs_iret (pc := 184) dX10_count_184 rfl rfl rfl
  refine zs_case ?_ ?_
  · refine zs_aload_n (pc := 185) 0 dX10_count_185 rfl rfl ?_
    refine zm_geti (pc := 186) 53 (by decide) rfl q1586 dX10_count_186 ?_
    exact zs_iret (pc := 189) dX10_count_189 rfl rfl rfl
  refine zs_case ?_ ?_
  · refine zs_aload_n (pc := 190) 0 dX10_count_190 rfl rfl ?_
    refine zm_geti (pc := 191) 63 (by decide) rfl q1596 dX10_count_191 ?_
    exact zs_iret (pc := 194) dX10_count_194 rfl rfl rfl
  refine zs_case ?_ ?_
  · refine zs_aload_n (pc := 195) 0 dX10_count_195 rfl rfl ?_
    refine zm_geta (pc := 196) 69 46 (by decide) rfl q1602 dX10_count_196 ?_
    refine zs_iconst (pc := 199) (v := 0) dX10_count_199 rfl ?_
    refine zm_zald (pc := 200) 69 46 zm_p69 dX10_count_200 (fun x13 => ?_)
    refine zs_join (pc := 201) (fun (p14 : Int32) => M1) 209 (fun (p14 : Int32) => [(0, .ref m)]) (fun (p14 : Int32) => [.int p14]) (fun p14 => ?_) (fun h209 => ?_)
    · refine zs_aload_n (pc := 209) 0 dX10_count_209 rfl rfl ?_
      refine zm_geta (pc := 210) 69 46 (by decide) rfl q1602 dX10_count_210 ?_
      refine zs_iconst (pc := 213) (v := 1) dX10_count_213 rfl ?_
      refine zm_zald (pc := 214) 69 46 zm_p69 dX10_count_214 (fun x15 => ?_)
      refine zs_join (pc := 215) (fun (p16 : Int32) => M1) 223 (fun (p16 : Int32) => [(0, .ref m)]) (fun (p16 : Int32) => [.int p16, .int p14]) (fun p16 => ?_) (fun h223 => ?_)
      · refine zs_iadd (pc := 223) dX10_count_223 ?_
        refine zs_aload_n (pc := 224) 0 dX10_count_224 rfl rfl ?_
        refine zm_geta (pc := 225) 69 46 (by decide) rfl q1602 dX10_count_225 ?_
        refine zs_iconst (pc := 228) (v := 2) dX10_count_228 rfl ?_
        refine zm_zald (pc := 229) 69 46 zm_p69 dX10_count_229 (fun x17 => ?_)
        refine zs_if_eq (pc := 230) (tgt := 237) dX10_count_230 (by decide) ?_ ?_
        · refine zs_iconst (pc := 237) (v := 0) dX10_count_237 rfl ?_
          refine zs_iadd (pc := 238) dX10_count_238 ?_
          exact zs_iret (pc := 239) dX10_count_239 rfl rfl rfl
        · refine zs_iconst (pc := 233) (v := 1) dX10_count_233 rfl ?_
          refine zs_goto (pc := 234) (tgt := 238) dX10_count_234 (by decide) ?_
          refine zs_iadd (pc := 238) dX10_count_238 ?_
          exact zs_iret (pc := 239) dX10_count_239 rfl rfl rfl
      · refine zs_if_eq (pc := 215) (tgt := 222) dX10_count_215 (by decide) ?_ ?_
        · refine zs_iconst (pc := 222) (v := 0) dX10_count_222 rfl ?_
          exact h223 0
        · refine zs_iconst (pc := 218) (v := 1) dX10_count_218 rfl ?_
          refine zs_goto (pc := 219) (tgt := 223) dX10_count_219 (by decide) ?_
          exact h223 1
    · refine zs_if_eq (pc := 201) (tgt := 208) dX10_count_201 (by decide) ?_ ?_
      · refine zs_iconst (pc := 208) (v := 0) dX10_count_208 rfl ?_
        refine zs_sub (lv' := [(0, .ref m)]) [0] rfl ?_
        exact h209 0
      · refine zs_iconst (pc := 204) (v := 1) dX10_count_204 rfl ?_
        refine zs_goto (pc := 205) (tgt := 209) dX10_count_205 (by decide) ?_
        refine zs_sub (lv' := [(0, .ref m)]) [0] rfl ?_
        exact h209 1
  refine zs_case ?_ ?_
  · refine zs_aload_n (pc := 240) 0 dX10_count_240 rfl rfl ?_
    refine zs_callVrI (pc := 241) [] [] (km_ropeLong D h0 m M1) kv_ropeLong q1956 zc_X10 zm_recv dX10_count_241 rfl rfl (Nat.le_of_ble_eq_true rfl) (Nat.le_of_ble_eq_true rfl) (fun x18 => ?_)
    refine zs_aload_n (pc := 244) 0 dX10_count_244 rfl rfl ?_
    refine zm_geta (pc := 245) 27 13 (by decide) rfl q1560 dX10_count_245 ?_
    refine zs_aload_n (pc := 248) 0 dX10_count_248 rfl rfl ?_
    refine zm_geti (pc := 249) 18 (by decide) rfl q1551 dX10_count_249 ?_
    refine zm_iald (pc := 252) 27 13 zm_p27 dX10_count_252 (fun x19 => ?_)
    refine zs_icmp_lt (pc := 253) (tgt := 260) dX10_count_253 (by decide) ?_ ?_
    · refine zs_iconst (pc := 260) (v := 0) dX10_count_260 rfl ?_
      exact zs_iret (pc := 261) dX10_count_261 rfl rfl rfl
    · refine zs_iconst (pc := 256) (v := 1) dX10_count_256 rfl ?_
      refine zs_goto (pc := 257) (tgt := 261) dX10_count_257 (by decide) ?_
      exact zs_iret (pc := 261) dX10_count_261 rfl rfl rfl
  refine zs_case ?_ ?_
  · refine zs_aload_n (pc := 262) 0 dX10_count_262 rfl rfl ?_
    refine zm_geta (pc := 263) 28 14 (by decide) rfl q1561 dX10_count_263 ?_
    refine zs_aload_n (pc := 266) 0 dX10_count_266 rfl rfl ?_
    refine zm_geti (pc := 267) 18 (by decide) rfl q1551 dX10_count_267 ?_
    refine zm_iald (pc := 270) 28 14 zm_p28 dX10_count_270 (fun x20 => ?_)
    exact zs_iret (pc := 271) dX10_count_271 rfl rfl rfl
  refine zs_case ?_ ?_
  · refine zs_aload_n (pc := 272) 0 dX10_count_272 rfl rfl ?_
    refine zs_bipush (pc := 273) (v := 18) dX10_count_273 (by decide) ?_
    refine zs_callVrI (pc := 275) [.int 18] [] (km_sumNow D h0 m M1 18) kv_sumNow q2215 zc_X10 zm_recv dX10_count_275 rfl rfl (Nat.le_of_ble_eq_true rfl) (Nat.le_of_ble_eq_true rfl) (fun x21 => ?_)
    exact zs_iret (pc := 278) dX10_count_278 rfl rfl rfl
  refine zs_case ?_ ?_
  · refine zs_iconst (pc := 279) (v := 0) dX10_count_279 rfl ?_
    refine zs_istore_n (pc := 280) (lv' := [(0, .ref m), (1, .int a1), (2, .int 0), (3, .int 0)]) [1, 2, 3, 0] dX10_count_280 rfl (by decide) rfl ?_
    refine zs_sub (pc := 281) (lv' := [(0, .ref m), (2, .int 0), (3, .int 0)]) [0, 2, 3] rfl ?_
    refine zs_whileX (pc := 281) (fun (t281 : Int32 × Int32) => M1) (fun (t281 : Int32 × Int32) => [(0, .ref m), (2, .int t281.1), (3, .int t281.2)]) 5000 (0, 0) (fun X281 hL281 hR281 t281 => ?_)
    unfold gm_count_L281
    refine zs_iload_n (pc := 281) 2 dX10_count_281 rfl rfl ?_
    refine zs_aload_n (pc := 282) 0 dX10_count_282 rfl rfl ?_
    refine zm_geta (pc := 283) 22 8 (by decide) rfl q1555 dX10_count_283 ?_
    refine zs_aload_n (pc := 286) 0 dX10_count_286 rfl rfl ?_
    refine zm_geti (pc := 287) 18 (by decide) rfl q1551 dX10_count_287 ?_
    refine zm_iald (pc := 290) 22 8 zm_p22 dX10_count_290 (fun x22 => ?_)
    refine zs_icmp_ge (pc := 291) (tgt := 315) dX10_count_291 (by decide) ?_ ?_
    · refine zs_aload_n (pc := 294) 0 dX10_count_294 rfl rfl ?_
      refine zm_geta (pc := 295) 48 30 (by decide) rfl q1581 dX10_count_295 ?_
      refine zs_iload_n (pc := 298) 2 dX10_count_298 rfl rfl ?_
      refine zm_iald (pc := 299) 48 30 zm_p48 dX10_count_299 (fun x23 => ?_)
      refine zs_join (pc := 300) (fun (p24 : Int32) => M1) 309 (fun (p24 : Int32) => [(0, .ref m), (2, .int p24), (3, .int t281.2)]) (fun (p24 : Int32) => []) (fun p24 => ?_) (fun h309 => ?_)
      · refine zs_iinc (pc := 309) (lv' := [(0, .ref m), (2, .int p24), (3, .int (t281.2 + 1))]) 2 [1, 2, 0] dX10_count_309 rfl rfl (by decide) rfl ?_
        refine zs_goto (pc := 312) (tgt := 281) dX10_count_312 (by decide) ?_
        exact hL281 (p24, (t281.2 + 1))
      · refine zs_if_ne (pc := 300) (tgt := 309) dX10_count_300 (by decide) ?_ ?_
        · refine zs_iload_n (pc := 303) 1 dX10_count_303 rfl rfl ?_
          refine zs_iconst (pc := 304) (v := 1) dX10_count_304 rfl ?_
          refine zs_iload_n (pc := 305) 2 dX10_count_305 rfl rfl ?_
          refine zs_ishl (pc := 306) dX10_count_306 ?_
          refine zs_ior (pc := 307) dX10_count_307 ?_
          refine zs_nm (fun x25 => ?_)
          refine zs_istore_n (pc := 308) (lv' := [(0, .ref m), (2, .int x25), (3, .int t281.2)]) [1, 0, 2] dX10_count_308 rfl (by decide) rfl ?_
          exact h309 x25
        · exact h309 t281.1
    · refine zs_iload_n (pc := 315) 1 dX10_count_315 rfl rfl ?_
      exact zs_iret (pc := 316) dX10_count_316 ((hR281 _).trans rfl) rfl rfl
  refine zs_case ?_ ?_
  · refine zs_aload_n (pc := 317) 0 dX10_count_317 rfl rfl ?_
    refine zs_bipush (pc := 318) (v := 12) dX10_count_318 (by decide) ?_
    refine zs_callVrI (pc := 320) [.int 12] [] (km_sumNow D h0 m M1 12) kv_sumNow q2215 zc_X10 zm_recv dX10_count_320 rfl rfl (Nat.le_of_ble_eq_true rfl) (Nat.le_of_ble_eq_true rfl) (fun x26 => ?_)
    exact zs_iret (pc := 323) dX10_count_323 rfl rfl rfl
  refine zs_dflt ?_
  refine zs_iconst (pc := 324) (v := (-1)) dX10_count_324 rfl ?_
  exact zs_iret (pc := 325) dX10_count_325 rfl rfl rfl
