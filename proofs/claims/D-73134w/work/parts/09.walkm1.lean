/-! THE MODEL's methods, walked: what each computes (gm_), that its code computes it (km_). Printed by wip/D-73134w/gen/model.py -/
set_option maxRecDepth 100000
theorem pl_X10 : plainName RX10 = true := by decide +kernel
theorem zs_lv {σ α β : Type} {D : zs_D} {Rl : σ → zs_AH → Prop} {bd : σ → Nat × Nat} {Fn : zs_Q σ α} {own : String} {cc : ByteArray} {nL : Nat} {rt : Option FieldType} {nm : String} {d : Nat} {M : σ} {pc : Nat} {lv lv' : List (Nat × Value)} {st : List Value} {o : Option β} {K : β → Option (α × σ)} (h : lv = lv') (k : zs_Sim D Rl bd Fn own cc nL rt nm d M pc lv' st o K) : zs_Sim D Rl bd Fn own cc nL rt nm d M pc lv st o K := h ▸ k
theorem kv_plain : zs_mV RX10 yX10_plain cX10_plain 3 none 1 := ⟨q1517, qs59, q152, q1518, by decide, by decide +kernel⟩
def gm_plain_L16 (a1 : Int32) : (Int32 × zm_S) → Option ((Int32 × zm_S) ⊕ (zm_S)) := fun t16 =>
if t16.1 < 36 then ((zs_ast 72 ((36 * a1) + t16.1) (zm_sA t16.2 26 ((36 * a1) + t16.1) 5)).bind fun M3 =>
some (Sum.inl ((t16.1 + 1), M3)))
else (some (Sum.inr t16.2))
def gm_plain_L72 (a1 : Int32) : (Int32 × zm_S) → Option ((Int32 × zm_S) ⊕ (zm_S)) := fun t72 =>
if t72.1 < 4 then ((zs_ast 8 ((4 * a1) + t72.1) (zm_sA t72.2 31 ((4 * a1) + t72.1) 0)).bind fun M9 =>
(zs_ast 8 ((4 * a1) + t72.1) (zm_sA M9 32 ((4 * a1) + t72.1) 0)).bind fun M10 =>
some (Sum.inl ((t72.1 + 1), M10)))
else (some (Sum.inr t72.2))
def gm_plain (M : zm_S) (a1 : Int32) : Option (zm_S) :=
(zs_ast 2 a1 (zm_sA M 22 a1 0)).bind fun M1 =>
(zs_ast 2 a1 (zm_sA M1 25 a1 0)).bind fun M2 =>
(zs_loop 5000 (gm_plain_L16 a1) (0, M2)).bind fun (r4 : zm_S) =>
(zs_ast 2 a1 (zm_sA r4 27 a1 20)).bind fun M5 =>
(zs_ast 2 a1 (zm_sA M5 28 a1 10)).bind fun M6 =>
(zs_ast 2 a1 (zm_sA M6 29 a1 0)).bind fun M7 =>
(zs_ast 2 a1 (zm_sA M7 30 a1 0)).bind fun M8 =>
(zs_loop 5000 (gm_plain_L72 a1) (0, M8)).bind fun z => some z
set_option maxHeartbeats 4000000 in
theorem km_plain (D : zs_D) (h0 : zs_AH) (m : Nat) (M : zm_S) (a1 : Int32) : zs_Con D (zm_R h0 m) zm_bd zs_eV yX10_plain cX10_plain 3 none 0 [.ref m, .int a1] M ((gm_plain M a1).map fun x => ((), x)) := by
  unfold gm_plain
  refine zs_conV (own := RX10) (nm := "plain") pl_X10 rfl rfl (Nat.le_of_ble_eq_true rfl) ?_
  refine zs_lv (lv' := [(0, .ref m), (1, .int a1)]) rfl ?_
  refine zs_aload_n (pc := 0) 0 dX10_plain_0 rfl rfl ?_
  refine zm_geta (pc := 1) 22 8 (by decide) rfl q1555 dX10_plain_1 ?_
  refine zs_iload_n (pc := 4) 1 dX10_plain_4 rfl rfl ?_
  refine zs_iconst (pc := 5) (v := 0) dX10_plain_5 rfl ?_
  refine zm_iast (pc := 6) 22 8 zm_p22 dX10_plain_6 (fun M1 => ?_)
  refine zs_aload_n (pc := 7) 0 dX10_plain_7 rfl rfl ?_
  refine zm_geta (pc := 8) 25 11 (by decide) rfl q1558 dX10_plain_8 ?_
  refine zs_iload_n (pc := 11) 1 dX10_plain_11 rfl rfl ?_
  refine zs_iconst (pc := 12) (v := 0) dX10_plain_12 rfl ?_
  refine zm_iast (pc := 13) 25 11 zm_p25 dX10_plain_13 (fun M2 => ?_)
  refine zs_iconst (pc := 14) (v := 0) dX10_plain_14 rfl ?_
  refine zs_istore_n (pc := 15) (lv' := [(0, .ref m), (1, .int a1), (2, .int 0)]) [1, 2, 0] dX10_plain_15 rfl (by decide) rfl ?_
  refine zs_whileJ (pc := 16) (fun (t16 : Int32 × zm_S) => t16.2) (fun (t16 : Int32 × zm_S) => [(0, .ref m), (1, .int a1), (2, .int t16.1)]) 5000 (0, M2) (fun (r4 : zm_S) => r4) 40 (fun (r4 : zm_S) => [(0, .ref m), (1, .int a1)]) [] (fun r4 => ?_) (fun X16 hL16 hE16 t16 => ?_)
  · refine zs_aload_n (pc := 40) 0 dX10_plain_40 rfl rfl ?_
    refine zm_geta (pc := 41) 27 13 (by decide) rfl q1560 dX10_plain_41 ?_
    refine zs_iload_n (pc := 44) 1 dX10_plain_44 rfl rfl ?_
    refine zs_bipush (pc := 45) (v := 20) dX10_plain_45 (by decide) ?_
    refine zm_iast (pc := 47) 27 13 zm_p27 dX10_plain_47 (fun M5 => ?_)
    refine zs_aload_n (pc := 48) 0 dX10_plain_48 rfl rfl ?_
    refine zm_geta (pc := 49) 28 14 (by decide) rfl q1561 dX10_plain_49 ?_
    refine zs_iload_n (pc := 52) 1 dX10_plain_52 rfl rfl ?_
    refine zs_bipush (pc := 53) (v := 10) dX10_plain_53 (by decide) ?_
    refine zm_iast (pc := 55) 28 14 zm_p28 dX10_plain_55 (fun M6 => ?_)
    refine zs_aload_n (pc := 56) 0 dX10_plain_56 rfl rfl ?_
    refine zm_geta (pc := 57) 29 15 (by decide) rfl q1562 dX10_plain_57 ?_
    refine zs_iload_n (pc := 60) 1 dX10_plain_60 rfl rfl ?_
    refine zs_iconst (pc := 61) (v := 0) dX10_plain_61 rfl ?_
    refine zm_iast (pc := 62) 29 15 zm_p29 dX10_plain_62 (fun M7 => ?_)
    refine zs_aload_n (pc := 63) 0 dX10_plain_63 rfl rfl ?_
    refine zm_geta (pc := 64) 30 16 (by decide) rfl q1563 dX10_plain_64 ?_
    refine zs_iload_n (pc := 67) 1 dX10_plain_67 rfl rfl ?_
    refine zs_iconst (pc := 68) (v := 0) dX10_plain_68 rfl ?_
    refine zm_iast (pc := 69) 30 16 zm_p30 dX10_plain_69 (fun M8 => ?_)
    refine zs_iconst (pc := 70) (v := 0) dX10_plain_70 rfl ?_
    refine zs_istore_n (pc := 71) (lv' := [(0, .ref m), (1, .int a1), (2, .int 0)]) [1, 2, 0] dX10_plain_71 rfl (by decide) rfl ?_
    refine zs_whileX (pc := 72) (fun (t72 : Int32 × zm_S) => t72.2) (fun (t72 : Int32 × zm_S) => [(0, .ref m), (1, .int a1), (2, .int t72.1)]) 5000 (0, M8) (fun X72 hL72 hR72 t72 => ?_)
    unfold gm_plain_L72
    refine zs_iload_n (pc := 72) 2 dX10_plain_72 rfl rfl ?_
    refine zs_iconst (pc := 73) (v := 4) dX10_plain_73 rfl ?_
    refine zs_icmp_ge (pc := 74) (tgt := 105) dX10_plain_74 (by decide) ?_ ?_
    · refine zs_aload_n (pc := 77) 0 dX10_plain_77 rfl rfl ?_
      refine zm_geta (pc := 78) 31 17 (by decide) rfl q1564 dX10_plain_78 ?_
      refine zs_iconst (pc := 81) (v := 4) dX10_plain_81 rfl ?_
      refine zs_iload_n (pc := 82) 1 dX10_plain_82 rfl rfl ?_
      refine zs_imul (pc := 83) dX10_plain_83 ?_
      refine zs_iload_n (pc := 84) 2 dX10_plain_84 rfl rfl ?_
      refine zs_iadd (pc := 85) dX10_plain_85 ?_
      refine zs_iconst (pc := 86) (v := 0) dX10_plain_86 rfl ?_
      refine zm_iast (pc := 87) 31 17 zm_p31 dX10_plain_87 (fun M9 => ?_)
      refine zs_aload_n (pc := 88) 0 dX10_plain_88 rfl rfl ?_
      refine zm_geta (pc := 89) 32 18 (by decide) rfl q1565 dX10_plain_89 ?_
      refine zs_iconst (pc := 92) (v := 4) dX10_plain_92 rfl ?_
      refine zs_iload_n (pc := 93) 1 dX10_plain_93 rfl rfl ?_
      refine zs_imul (pc := 94) dX10_plain_94 ?_
      refine zs_iload_n (pc := 95) 2 dX10_plain_95 rfl rfl ?_
      refine zs_iadd (pc := 96) dX10_plain_96 ?_
      refine zs_iconst (pc := 97) (v := 0) dX10_plain_97 rfl ?_
      refine zm_iast (pc := 98) 32 18 zm_p32 dX10_plain_98 (fun M10 => ?_)
      refine zs_iinc (pc := 99) (lv' := [(0, .ref m), (1, .int a1), (2, .int (t72.1 + 1))]) 2 [1, 2, 0] dX10_plain_99 rfl rfl (by decide) rfl ?_
      refine zs_goto (pc := 102) (tgt := 72) dX10_plain_102 (by decide) ?_
      exact hL72 ((t72.1 + 1), M10)
    · exact zs_vret (pc := 105) dX10_plain_105 ((hR72 _).trans rfl) rfl
  · unfold gm_plain_L16
    refine zs_iload_n (pc := 16) 2 dX10_plain_16 rfl rfl ?_
    refine zs_bipush (pc := 17) (v := 36) dX10_plain_17 (by decide) ?_
    refine zs_icmp_ge (pc := 19) (tgt := 40) dX10_plain_19 (by decide) ?_ ?_
    · refine zs_aload_n (pc := 22) 0 dX10_plain_22 rfl rfl ?_
      refine zm_geta (pc := 23) 26 12 (by decide) rfl q1559 dX10_plain_23 ?_
      refine zs_bipush (pc := 26) (v := 36) dX10_plain_26 (by decide) ?_
      refine zs_iload_n (pc := 28) 1 dX10_plain_28 rfl rfl ?_
      refine zs_imul (pc := 29) dX10_plain_29 ?_
      refine zs_iload_n (pc := 30) 2 dX10_plain_30 rfl rfl ?_
      refine zs_iadd (pc := 31) dX10_plain_31 ?_
      refine zs_iconst (pc := 32) (v := 5) dX10_plain_32 rfl ?_
      refine zm_iast (pc := 33) 26 12 zm_p26 dX10_plain_33 (fun M3 => ?_)
      refine zs_iinc (pc := 34) (lv' := [(0, .ref m), (1, .int a1), (2, .int (t16.1 + 1))]) 2 [1, 2, 0] dX10_plain_34 rfl rfl (by decide) rfl ?_
      refine zs_goto (pc := 37) (tgt := 16) dX10_plain_37 (by decide) ?_
      exact hL16 ((t16.1 + 1), M3)
    · refine zs_sub (lv' := [(0, .ref m), (1, .int a1)]) [0, 1] rfl ?_
      exact hE16 t16.2
theorem kv_appends : zs_mS yX10_appends cX10_appends 3 (some .long) 2 := ⟨q1523, q152, q1524, by decide, by decide +kernel⟩
def gm_appends (a0 : Int64) (a2 : Int32) : Option (Int64) :=
if a2 = 0 then (some a0)
else ((some ((27 * a0) + ((a2 - 97) + 1).toInt64)).bind fun l1 =>
some l1)
set_option maxHeartbeats 4000000 in
theorem km_appends {σ : Type} (D : zs_D) (Rl : σ → zs_AH → Prop) (bd : σ → Nat × Nat) (M : σ) (a0 : Int64) (a2 : Int32) : zs_Con D Rl bd zs_eL yX10_appends cX10_appends 3 (some .long) 0 [.long a0, .int a2] M ((gm_appends a0 a2).map fun x => (x, M)) := by
  unfold gm_appends
  refine zs_conR (own := RX10) (nm := "appends") pl_X10 rfl rfl (Nat.le_of_ble_eq_true rfl) ?_
  refine zs_lv (lv' := [(0, .long a0), (2, .int a2)]) rfl ?_
  refine zs_iload_n (pc := 0) 1 dX10_appends_0 rfl rfl ?_
  refine zs_if_ne (pc := 1) (tgt := 8) dX10_appends_1 (by decide) ?_ ?_
  · refine zs_lload_n (pc := 4) 0 dX10_appends_4 rfl rfl ?_
    refine zs_goto (pc := 5) (tgt := 21) dX10_appends_5 (by decide) ?_
    exact zs_lret (pc := 21) dX10_appends_21 rfl rfl
  · refine zs_ldc2 (pc := 8) (v := 27) q1525 dX10_appends_8 ?_
    refine zs_lload_n (pc := 11) 0 dX10_appends_11 rfl rfl ?_
    refine zs_lmul (pc := 12) dX10_appends_12 ?_
    refine zs_iload_n (pc := 13) 1 dX10_appends_13 rfl rfl ?_
    refine zs_bipush (pc := 14) (v := 97) dX10_appends_14 (by decide) ?_
    refine zs_isub (pc := 16) dX10_appends_16 ?_
    refine zs_iconst (pc := 17) (v := 1) dX10_appends_17 rfl ?_
    refine zs_iadd (pc := 18) dX10_appends_18 ?_
    refine zs_i2l (pc := 19) dX10_appends_19 ?_
    refine zs_ladd (pc := 20) dX10_appends_20 ?_
    refine zs_nml (fun l1 => ?_)
    exact zs_lret (pc := 21) dX10_appends_21 rfl rfl
theorem kv_letters : zs_mS yX10_letters cX10_letters 7 (some .long) 7 := ⟨q1520, q152, q1521, by decide, by decide +kernel⟩
def gm_letters (a0 : Int32) (a1 : Int32) (a2 : Int32) (a3 : Int32) (a4 : Int32) (a5 : Int32) (a6 : Int32) : Option (Int64) :=
(gm_appends 0 a0).bind fun l1 =>
(gm_appends l1 a1).bind fun l2 =>
(gm_appends l2 a2).bind fun l3 =>
(gm_appends l3 a3).bind fun l4 =>
(gm_appends l4 a4).bind fun l5 =>
(gm_appends l5 a5).bind fun l6 =>
(gm_appends l6 a6).bind fun l7 =>
some l7
set_option maxHeartbeats 4000000 in
theorem km_letters {σ : Type} (D : zs_D) (Rl : σ → zs_AH → Prop) (bd : σ → Nat × Nat) (M : σ) (a0 : Int32) (a1 : Int32) (a2 : Int32) (a3 : Int32) (a4 : Int32) (a5 : Int32) (a6 : Int32) : zs_Con D Rl bd zs_eL yX10_letters cX10_letters 7 (some .long) 1 [.int a0, .int a1, .int a2, .int a3, .int a4, .int a5, .int a6] M ((gm_letters a0 a1 a2 a3 a4 a5 a6).map fun x => (x, M)) := by
  unfold gm_letters
  refine zs_conR (own := RX10) (nm := "letters") pl_X10 rfl rfl (Nat.le_of_ble_eq_true rfl) ?_
  refine zs_lv (lv' := [(0, .int a0), (1, .int a1), (2, .int a2), (3, .int a3), (4, .int a4), (5, .int a5), (6, .int a6)]) rfl ?_
  refine zs_lconst (pc := 0) (v := 0) dX10_letters_0 rfl ?_
  refine zs_iload_n (pc := 1) 0 dX10_letters_1 rfl rfl ?_
  refine zs_callSrL (pc := 2) [.long 0, .int a0] [] (km_appends D _ _ M 0 a0) kv_appends q1522 dX10_letters_2 rfl rfl (Nat.le_of_ble_eq_true rfl) (Nat.le_of_ble_eq_true rfl) (fun l1 => ?_)
  refine zs_iload_n (pc := 5) 1 dX10_letters_5 rfl rfl ?_
  refine zs_callSrL (pc := 6) [.long l1, .int a1] [] (km_appends D _ _ M l1 a1) kv_appends q1522 dX10_letters_6 rfl rfl (Nat.le_of_ble_eq_true rfl) (Nat.le_of_ble_eq_true rfl) (fun l2 => ?_)
  refine zs_iload_n (pc := 9) 2 dX10_letters_9 rfl rfl ?_
  refine zs_callSrL (pc := 10) [.long l2, .int a2] [] (km_appends D _ _ M l2 a2) kv_appends q1522 dX10_letters_10 rfl rfl (Nat.le_of_ble_eq_true rfl) (Nat.le_of_ble_eq_true rfl) (fun l3 => ?_)
  refine zs_iload_n (pc := 13) 3 dX10_letters_13 rfl rfl ?_
  refine zs_callSrL (pc := 14) [.long l3, .int a3] [] (km_appends D _ _ M l3 a3) kv_appends q1522 dX10_letters_14 rfl rfl (Nat.le_of_ble_eq_true rfl) (Nat.le_of_ble_eq_true rfl) (fun l4 => ?_)
  refine zs_iload (pc := 17) 4 dX10_letters_17 rfl ?_
  refine zs_callSrL (pc := 19) [.long l4, .int a4] [] (km_appends D _ _ M l4 a4) kv_appends q1522 dX10_letters_19 rfl rfl (Nat.le_of_ble_eq_true rfl) (Nat.le_of_ble_eq_true rfl) (fun l5 => ?_)
  refine zs_iload (pc := 22) 5 dX10_letters_22 rfl ?_
  refine zs_callSrL (pc := 24) [.long l5, .int a5] [] (km_appends D _ _ M l5 a5) kv_appends q1522 dX10_letters_24 rfl rfl (Nat.le_of_ble_eq_true rfl) (Nat.le_of_ble_eq_true rfl) (fun l6 => ?_)
  refine zs_iload (pc := 27) 6 dX10_letters_27 rfl ?_
  refine zs_callSrL (pc := 29) [.long l6, .int a6] [] (km_appends D _ _ M l6 a6) kv_appends q1522 dX10_letters_29 rfl rfl (Nat.le_of_ble_eq_true rfl) (Nat.le_of_ble_eq_true rfl) (fun l7 => ?_)
  exact zs_lret (pc := 32) dX10_letters_32 rfl rfl
theorem kv_begins : zs_mV RX10 yX10_begins cX10_begins 2 none 0 := ⟨q1528, qs60, q152, q1529, by decide, by decide +kernel⟩
def gm_begins_L2 : (Int32 × zm_S) → Option ((Int32 × zm_S) ⊕ (zm_S)) := fun t2 =>
if t2.1 < 33 then ((zs_ast 33 t2.1 (zm_sA t2.2 48 t2.1 0)).bind fun M1 =>
some (Sum.inl ((t2.1 + 1), M1)))
else (some (Sum.inr t2.2))
def gm_begins_L23 : (Int32 × zm_S) → Option ((Int32 × zm_S) ⊕ (zm_S)) := fun t23 =>
(zs_ald 2 (t23.2.2.1 22) (t23.2.1 18)).bind fun x3 =>
if t23.1 < x3 then ((zs_ald 12 (t23.2.2.1 23) ((6 * (t23.2.1 18)) + t23.1)).bind fun x4 =>
(zs_ast 33 t23.1 (zm_sA t23.2 48 t23.1 x4)).bind fun M5 =>
some (Sum.inl ((t23.1 + 1), M5)))
else (some (Sum.inr t23.2))
def gm_begins (M : zm_S) : Option (zm_S) :=
(zs_loop 5000 gm_begins_L2 (0, M)).bind fun (r2 : zm_S) =>
(zs_loop 5000 gm_begins_L23 (0, r2)).bind fun (r6 : zm_S) =>
(zs_ald 2 (r6.2.1 30) (r6.1 18)).bind fun x7 =>
(some (zm_sF r6 49 x7)).bind fun M8 =>
(some (zm_sF M8 50 0)).bind fun M9 =>
some M9
set_option maxHeartbeats 4000000 in
theorem km_begins (D : zs_D) (h0 : zs_AH) (m : Nat) (M : zm_S) : zs_Con D (zm_R h0 m) zm_bd zs_eV yX10_begins cX10_begins 2 none 0 [.ref m] M ((gm_begins M).map fun x => ((), x)) := by
  unfold gm_begins
  refine zs_conV (own := RX10) (nm := "begins") pl_X10 rfl rfl (Nat.le_of_ble_eq_true rfl) ?_
  refine zs_lv (lv' := [(0, .ref m)]) rfl ?_
  refine zs_iconst (pc := 0) (v := 0) dX10_begins_0 rfl ?_
  refine zs_istore_n (pc := 1) (lv' := [(0, .ref m), (1, .int 0)]) [1, 0] dX10_begins_1 rfl (by decide) rfl ?_
  refine zs_whileJ (pc := 2) (fun (t2 : Int32 × zm_S) => t2.2) (fun (t2 : Int32 × zm_S) => [(0, .ref m), (1, .int t2.1)]) 5000 (0, M) (fun (r2 : zm_S) => r2) 21 (fun (r2 : zm_S) => [(0, .ref m)]) [] (fun r2 => ?_) (fun X2 hL2 hE2 t2 => ?_)
  · refine zs_iconst (pc := 21) (v := 0) dX10_begins_21 rfl ?_
    refine zs_istore_n (pc := 22) (lv' := [(0, .ref m), (1, .int 0)]) [1, 0] dX10_begins_22 rfl (by decide) rfl ?_
    refine zs_whileJ (pc := 23) (fun (t23 : Int32 × zm_S) => t23.2) (fun (t23 : Int32 × zm_S) => [(0, .ref m), (1, .int t23.1)]) 5000 (0, r2) (fun (r6 : zm_S) => r6) 62 (fun (r6 : zm_S) => [(0, .ref m)]) [] (fun r6 => ?_) (fun X23 hL23 hE23 t23 => ?_)
    · refine zs_aload_n (pc := 62) 0 dX10_begins_62 rfl rfl ?_
      refine zs_aload_n (pc := 63) 0 dX10_begins_63 rfl rfl ?_
      refine zm_geta (pc := 64) 30 16 (by decide) rfl q1563 dX10_begins_64 ?_
      refine zs_aload_n (pc := 67) 0 dX10_begins_67 rfl rfl ?_
      refine zm_geti (pc := 68) 18 (by decide) rfl q1551 dX10_begins_68 ?_
      refine zm_iald (pc := 71) 30 16 zm_p30 dX10_begins_71 (fun x7 => ?_)
      refine zm_puti (pc := 72) 49 (by decide) rfl q1582 rfl rfl rfl dX10_begins_72 ?_
      refine zs_nmM (fun M8 => ?_)
      refine zs_aload_n (pc := 75) 0 dX10_begins_75 rfl rfl ?_
      refine zs_iconst (pc := 76) (v := 0) dX10_begins_76 rfl ?_
      refine zm_puti (pc := 77) 50 (by decide) rfl q1583 rfl rfl rfl dX10_begins_77 ?_
      refine zs_nmM (fun M9 => ?_)
      exact zs_vret (pc := 80) dX10_begins_80 rfl rfl
    · unfold gm_begins_L23
      refine zs_iload_n (pc := 23) 1 dX10_begins_23 rfl rfl ?_
      refine zs_aload_n (pc := 24) 0 dX10_begins_24 rfl rfl ?_
      refine zm_geta (pc := 25) 22 8 (by decide) rfl q1555 dX10_begins_25 ?_
      refine zs_aload_n (pc := 28) 0 dX10_begins_28 rfl rfl ?_
      refine zm_geti (pc := 29) 18 (by decide) rfl q1551 dX10_begins_29 ?_
      refine zm_iald (pc := 32) 22 8 zm_p22 dX10_begins_32 (fun x3 => ?_)
      refine zs_icmp_ge (pc := 33) (tgt := 62) dX10_begins_33 (by decide) ?_ ?_
      · refine zs_aload_n (pc := 36) 0 dX10_begins_36 rfl rfl ?_
        refine zm_geta (pc := 37) 48 30 (by decide) rfl q1581 dX10_begins_37 ?_
        refine zs_iload_n (pc := 40) 1 dX10_begins_40 rfl rfl ?_
        refine zs_aload_n (pc := 41) 0 dX10_begins_41 rfl rfl ?_
        refine zm_geta (pc := 42) 23 9 (by decide) rfl q1556 dX10_begins_42 ?_
        refine zs_bipush (pc := 45) (v := 6) dX10_begins_45 (by decide) ?_
        refine zs_aload_n (pc := 47) 0 dX10_begins_47 rfl rfl ?_
        refine zm_geti (pc := 48) 18 (by decide) rfl q1551 dX10_begins_48 ?_
        refine zs_imul (pc := 51) dX10_begins_51 ?_
        refine zs_iload_n (pc := 52) 1 dX10_begins_52 rfl rfl ?_
        refine zs_iadd (pc := 53) dX10_begins_53 ?_
        refine zm_iald (pc := 54) 23 9 zm_p23 dX10_begins_54 (fun x4 => ?_)
        refine zm_iast (pc := 55) 48 30 zm_p48 dX10_begins_55 (fun M5 => ?_)
        refine zs_iinc (pc := 56) (lv' := [(0, .ref m), (1, .int (t23.1 + 1))]) 1 [1, 0] dX10_begins_56 rfl rfl (by decide) rfl ?_
        refine zs_goto (pc := 59) (tgt := 23) dX10_begins_59 (by decide) ?_
        exact hL23 ((t23.1 + 1), M5)
      · refine zs_sub (lv' := [(0, .ref m)]) [0] rfl ?_
        exact hE23 t23.2
  · unfold gm_begins_L2
    refine zs_iload_n (pc := 2) 1 dX10_begins_2 rfl rfl ?_
    refine zs_bipush (pc := 3) (v := 33) dX10_begins_3 (by decide) ?_
    refine zs_icmp_ge (pc := 5) (tgt := 21) dX10_begins_5 (by decide) ?_ ?_
    · refine zs_aload_n (pc := 8) 0 dX10_begins_8 rfl rfl ?_
      refine zm_geta (pc := 9) 48 30 (by decide) rfl q1581 dX10_begins_9 ?_
      refine zs_iload_n (pc := 12) 1 dX10_begins_12 rfl rfl ?_
      refine zs_iconst (pc := 13) (v := 0) dX10_begins_13 rfl ?_
      refine zm_iast (pc := 14) 48 30 zm_p48 dX10_begins_14 (fun M1 => ?_)
      refine zs_iinc (pc := 15) (lv' := [(0, .ref m), (1, .int (t2.1 + 1))]) 1 [1, 0] dX10_begins_15 rfl rfl (by decide) rfl ?_
      refine zs_goto (pc := 18) (tgt := 2) dX10_begins_18 (by decide) ?_
      exact hL2 ((t2.1 + 1), M1)
    · refine zs_sub (lv' := [(0, .ref m)]) [0] rfl ?_
      exact hE2 t2.2
theorem kv_keepsRow : zs_mV RX10 yX10_keepsRow cX10_keepsRow 2 none 0 := ⟨q1532, qs61, q152, q1533, by decide, by decide +kernel⟩
def gm_keepsRow_L2 : (Int32 × zm_S) → Option ((Int32 × zm_S) ⊕ (zm_S)) := fun t2 =>
if t2.1 < 33 then ((zs_ald 33 (t2.2.2.1 48) t2.1).bind fun x1 =>
(zs_ast 33 t2.1 (zm_sA t2.2 47 t2.1 x1)).bind fun M2 =>
some (Sum.inl ((t2.1 + 1), M2)))
else (some (Sum.inr t2.2))
def gm_keepsRow (M : zm_S) : Option (zm_S) :=
(zs_loop 5000 gm_keepsRow_L2 (0, M)).bind fun z => some z
set_option maxHeartbeats 4000000 in
theorem km_keepsRow (D : zs_D) (h0 : zs_AH) (m : Nat) (M : zm_S) : zs_Con D (zm_R h0 m) zm_bd zs_eV yX10_keepsRow cX10_keepsRow 2 none 0 [.ref m] M ((gm_keepsRow M).map fun x => ((), x)) := by
  unfold gm_keepsRow
  refine zs_conV (own := RX10) (nm := "keepsRow") pl_X10 rfl rfl (Nat.le_of_ble_eq_true rfl) ?_
  refine zs_lv (lv' := [(0, .ref m)]) rfl ?_
  refine zs_iconst (pc := 0) (v := 0) dX10_keepsRow_0 rfl ?_
  refine zs_istore_n (pc := 1) (lv' := [(0, .ref m), (1, .int 0)]) [1, 0] dX10_keepsRow_1 rfl (by decide) rfl ?_
  refine zs_whileX (pc := 2) (fun (t2 : Int32 × zm_S) => t2.2) (fun (t2 : Int32 × zm_S) => [(0, .ref m), (1, .int t2.1)]) 5000 (0, M) (fun X2 hL2 hR2 t2 => ?_)
  unfold gm_keepsRow_L2
  refine zs_iload_n (pc := 2) 1 dX10_keepsRow_2 rfl rfl ?_
  refine zs_bipush (pc := 3) (v := 33) dX10_keepsRow_3 (by decide) ?_
  refine zs_icmp_ge (pc := 5) (tgt := 26) dX10_keepsRow_5 (by decide) ?_ ?_
  · refine zs_aload_n (pc := 8) 0 dX10_keepsRow_8 rfl rfl ?_
    refine zm_geta (pc := 9) 47 29 (by decide) rfl q1580 dX10_keepsRow_9 ?_
    refine zs_iload_n (pc := 12) 1 dX10_keepsRow_12 rfl rfl ?_
    refine zs_aload_n (pc := 13) 0 dX10_keepsRow_13 rfl rfl ?_
    refine zm_geta (pc := 14) 48 30 (by decide) rfl q1581 dX10_keepsRow_14 ?_
    refine zs_iload_n (pc := 17) 1 dX10_keepsRow_17 rfl rfl ?_
    refine zm_iald (pc := 18) 48 30 zm_p48 dX10_keepsRow_18 (fun x1 => ?_)
    refine zm_iast (pc := 19) 47 29 zm_p47 dX10_keepsRow_19 (fun M2 => ?_)
    refine zs_iinc (pc := 20) (lv' := [(0, .ref m), (1, .int (t2.1 + 1))]) 1 [1, 0] dX10_keepsRow_20 rfl rfl (by decide) rfl ?_
    refine zs_goto (pc := 23) (tgt := 2) dX10_keepsRow_23 (by decide) ?_
    exact hL2 ((t2.1 + 1), M2)
  · exact zs_vret (pc := 26) dX10_keepsRow_26 ((hR2 _).trans rfl) rfl
theorem kv_lays : zs_mV RX10 yX10_lays cX10_lays 3 none 1 := ⟨q1754, qs62, q152, q1755, by decide, by decide +kernel⟩
def gm_lays_L3 (a1 : Int32) : (Int32 × zm_S) → Option ((Int32 × zm_S) ⊕ (zm_S)) := fun t3 =>
if t3.1 < 0 then (some (Sum.inr t3.2))
else ((zs_ast 2000 (t3.2.1 2) (zm_sA t3.2 1 (t3.2.1 2) (vp_nar .byte (zs_i8 (zs_shr a1 t3.1))))).bind fun M1 =>
(some (zm_sF M1 2 ((M1.1 2) + 1))).bind fun M2 =>
some (Sum.inl ((t3.1 + (-8)), M2)))
def gm_lays (M : zm_S) (a1 : Int32) : Option (zm_S) :=
(zs_loop 5000 (gm_lays_L3 a1) (24, M)).bind fun z => some z
set_option maxHeartbeats 4000000 in
theorem km_lays (D : zs_D) (h0 : zs_AH) (m : Nat) (M : zm_S) (a1 : Int32) : zs_Con D (zm_R h0 m) zm_bd zs_eV yX10_lays cX10_lays 3 none 0 [.ref m, .int a1] M ((gm_lays M a1).map fun x => ((), x)) := by
  unfold gm_lays
  refine zs_conV (own := RX10) (nm := "lays") pl_X10 rfl rfl (Nat.le_of_ble_eq_true rfl) ?_
  refine zs_lv (lv' := [(0, .ref m), (1, .int a1)]) rfl ?_
  refine zs_bipush (pc := 0) (v := 24) dX10_lays_0 (by decide) ?_
  refine zs_istore_n (pc := 2) (lv' := [(0, .ref m), (1, .int a1), (2, .int 24)]) [1, 2, 0] dX10_lays_2 rfl (by decide) rfl ?_
  refine zs_whileX (pc := 3) (fun (t3 : Int32 × zm_S) => t3.2) (fun (t3 : Int32 × zm_S) => [(0, .ref m), (1, .int a1), (2, .int t3.1)]) 5000 (24, M) (fun X3 hL3 hR3 t3 => ?_)
  unfold gm_lays_L3
  refine zs_iload_n (pc := 3) 2 dX10_lays_3 rfl rfl ?_
  refine zs_if_lt (pc := 4) (tgt := 36) dX10_lays_4 (by decide) ?_ ?_
  · exact zs_vret (pc := 36) dX10_lays_36 ((hR3 _).trans rfl) rfl
  · refine zs_aload_n (pc := 7) 0 dX10_lays_7 rfl rfl ?_
    refine zm_geta (pc := 8) 1 0 (by decide) rfl q1534 dX10_lays_8 ?_
    refine zs_aload_n (pc := 11) 0 dX10_lays_11 rfl rfl ?_
    refine zm_geti (pc := 12) 2 (by decide) rfl q1535 dX10_lays_12 ?_
    refine zs_iload_n (pc := 15) 1 dX10_lays_15 rfl rfl ?_
    refine zs_iload_n (pc := 16) 2 dX10_lays_16 rfl rfl ?_
    refine zs_ishr (pc := 17) dX10_lays_17 ?_
    refine zs_i2b (pc := 18) dX10_lays_18 ?_
    refine zm_bast (pc := 19) 1 0 zm_p1 dX10_lays_19 (fun M1 => ?_)
    refine zs_aload_n (pc := 20) 0 dX10_lays_20 rfl rfl ?_
    refine zs_dup (pc := 21) dX10_lays_21 rfl ?_
    refine zm_geti (pc := 22) 2 (by decide) rfl q1535 dX10_lays_22 ?_
    refine zs_iconst (pc := 25) (v := 1) dX10_lays_25 rfl ?_
    refine zs_iadd (pc := 26) dX10_lays_26 ?_
    refine zm_puti (pc := 27) 2 (by decide) rfl q1535 rfl rfl rfl dX10_lays_27 ?_
    refine zs_nmM (fun M2 => ?_)
    refine zs_iinc (pc := 30) (lv' := [(0, .ref m), (1, .int a1), (2, .int (t3.1 + (-8)))]) 2 [1, 2, 0] dX10_lays_30 rfl rfl (by decide) rfl ?_
    refine zs_goto (pc := 33) (tgt := 3) dX10_lays_33 (by decide) ?_
    exact hL3 ((t3.1 + (-8)), M2)
theorem kv_feed : zs_mV RX10 yX10_feed cX10_feed 6 (some .int) 5 := ⟨q1749, q1750, q152, q1751, by decide, by decide +kernel⟩
def gm_feed (M : zm_S) (a1 : Int32) (a2 : Int32) (a3 : Int32) (a4 : Int32) (a5 : Int32) : Option (Int32 × zm_S) :=
if 2000 < ((M.1 2) + 20) then (some ((-1), M))
else ((gm_lays M a1).bind fun M1 =>
(gm_lays M1 a2).bind fun M2 =>
(gm_lays M2 a3).bind fun M3 =>
(gm_lays M3 a4).bind fun M4 =>
(gm_lays M4 a5).bind fun M5 =>
some ((M5.1 2), M5))
set_option maxHeartbeats 4000000 in
theorem km_feed (D : zs_D) (h0 : zs_AH) (m : Nat) (M : zm_S) (a1 : Int32) (a2 : Int32) (a3 : Int32) (a4 : Int32) (a5 : Int32) : zs_Con D (zm_R h0 m) zm_bd zs_eI yX10_feed cX10_feed 6 (some .int) 1 [.ref m, .int a1, .int a2, .int a3, .int a4, .int a5] M (gm_feed M a1 a2 a3 a4 a5) := by
  unfold gm_feed
  refine zs_con (own := RX10) (nm := "feed") pl_X10 rfl rfl (Nat.le_of_ble_eq_true rfl) ?_
  refine zs_lv (lv' := [(0, .ref m), (1, .int a1), (2, .int a2), (3, .int a3), (4, .int a4), (5, .int a5)]) rfl ?_
  refine zs_aload_n (pc := 0) 0 dX10_feed_0 rfl rfl ?_
  refine zm_geti (pc := 1) 2 (by decide) rfl q1535 dX10_feed_1 ?_
  refine zs_bipush (pc := 4) (v := 20) dX10_feed_4 (by decide) ?_
  refine zs_iadd (pc := 6) dX10_feed_6 ?_
  refine zs_sipush (pc := 7) (v := 2000) dX10_feed_7 (by decide) ?_
  refine zs_icmp_le (pc := 10) (tgt := 15) dX10_feed_10 (by decide) ?_ ?_
  · refine zs_iconst (pc := 13) (v := (-1)) dX10_feed_13 rfl ?_
    exact zs_iret (pc := 14) dX10_feed_14 rfl rfl rfl
  · refine zs_aload_n (pc := 15) 0 dX10_feed_15 rfl rfl ?_
    refine zs_iload_n (pc := 16) 1 dX10_feed_16 rfl rfl ?_
    refine zs_callVv (pc := 17) [.int a1] [] (km_lays D h0 m M a1) kv_lays q1752 zc_X10 zm_recv dX10_feed_17 rfl rfl (Nat.le_of_ble_eq_true rfl) (Nat.le_of_ble_eq_true rfl) (fun M1 => ?_)
    refine zs_aload_n (pc := 20) 0 dX10_feed_20 rfl rfl ?_
    refine zs_iload_n (pc := 21) 2 dX10_feed_21 rfl rfl ?_
    refine zs_callVv (pc := 22) [.int a2] [] (km_lays D h0 m M1 a2) kv_lays q1752 zc_X10 zm_recv dX10_feed_22 rfl rfl (Nat.le_of_ble_eq_true rfl) (Nat.le_of_ble_eq_true rfl) (fun M2 => ?_)
    refine zs_aload_n (pc := 25) 0 dX10_feed_25 rfl rfl ?_
    refine zs_iload_n (pc := 26) 3 dX10_feed_26 rfl rfl ?_
    refine zs_callVv (pc := 27) [.int a3] [] (km_lays D h0 m M2 a3) kv_lays q1752 zc_X10 zm_recv dX10_feed_27 rfl rfl (Nat.le_of_ble_eq_true rfl) (Nat.le_of_ble_eq_true rfl) (fun M3 => ?_)
    refine zs_aload_n (pc := 30) 0 dX10_feed_30 rfl rfl ?_
    refine zs_iload (pc := 31) 4 dX10_feed_31 rfl ?_
    refine zs_callVv (pc := 33) [.int a4] [] (km_lays D h0 m M3 a4) kv_lays q1752 zc_X10 zm_recv dX10_feed_33 rfl rfl (Nat.le_of_ble_eq_true rfl) (Nat.le_of_ble_eq_true rfl) (fun M4 => ?_)
    refine zs_aload_n (pc := 36) 0 dX10_feed_36 rfl rfl ?_
    refine zs_iload (pc := 37) 5 dX10_feed_37 rfl ?_
    refine zs_callVv (pc := 39) [.int a5] [] (km_lays D h0 m M4 a5) kv_lays q1752 zc_X10 zm_recv dX10_feed_39 rfl rfl (Nat.le_of_ble_eq_true rfl) (Nat.le_of_ble_eq_true rfl) (fun M5 => ?_)
    refine zs_aload_n (pc := 42) 0 dX10_feed_42 rfl rfl ?_
    refine zm_geti (pc := 43) 2 (by decide) rfl q1535 dX10_feed_43 ?_
    exact zs_iret (pc := 46) dX10_feed_46 rfl rfl rfl
theorem kv_back : zs_mV RX10 yX10_back cX10_back 2 (some .int) 1 := ⟨q1757, q1758, q152, q1759, by decide, by decide +kernel⟩
def gm_back (M : zm_S) (a1 : Int32) : Option (Int32 × zm_S) :=
if a1 < 0 then (some ((-1), M))
else (if (M.1 2) < a1 then (some ((-1), M))
else ((some (zm_sF M 2 ((M.1 2) - a1))).bind fun M1 =>
some ((M1.1 2), M1)))
set_option maxHeartbeats 4000000 in
theorem km_back (D : zs_D) (h0 : zs_AH) (m : Nat) (M : zm_S) (a1 : Int32) : zs_Con D (zm_R h0 m) zm_bd zs_eI yX10_back cX10_back 2 (some .int) 0 [.ref m, .int a1] M (gm_back M a1) := by
  unfold gm_back
  refine zs_con (own := RX10) (nm := "back") pl_X10 rfl rfl (Nat.le_of_ble_eq_true rfl) ?_
  refine zs_lv (lv' := [(0, .ref m), (1, .int a1)]) rfl ?_
  refine zs_iload_n (pc := 0) 1 dX10_back_0 rfl rfl ?_
  refine zs_if_lt (pc := 1) (tgt := 12) dX10_back_1 (by decide) ?_ ?_
  · refine zs_iconst (pc := 12) (v := (-1)) dX10_back_12 rfl ?_
    exact zs_iret (pc := 13) dX10_back_13 rfl rfl rfl
  · refine zs_iload_n (pc := 4) 1 dX10_back_4 rfl rfl ?_
    refine zs_aload_n (pc := 5) 0 dX10_back_5 rfl rfl ?_
    refine zm_geti (pc := 6) 2 (by decide) rfl q1535 dX10_back_6 ?_
    refine zs_icmp_le (pc := 9) (tgt := 14) dX10_back_9 (by decide) ?_ ?_
    · refine zs_iconst (pc := 12) (v := (-1)) dX10_back_12 rfl ?_
      exact zs_iret (pc := 13) dX10_back_13 rfl rfl rfl
    · refine zs_aload_n (pc := 14) 0 dX10_back_14 rfl rfl ?_
      refine zs_dup (pc := 15) dX10_back_15 rfl ?_
      refine zm_geti (pc := 16) 2 (by decide) rfl q1535 dX10_back_16 ?_
      refine zs_iload_n (pc := 19) 1 dX10_back_19 rfl rfl ?_
      refine zs_isub (pc := 20) dX10_back_20 ?_
      refine zm_puti (pc := 21) 2 (by decide) rfl q1535 rfl rfl rfl dX10_back_21 ?_
      refine zs_nmM (fun M1 => ?_)
      refine zs_aload_n (pc := 24) 0 dX10_back_24 rfl rfl ?_
      refine zm_geti (pc := 25) 2 (by decide) rfl q1535 dX10_back_25 ?_
      exact zs_iret (pc := 28) dX10_back_28 rfl rfl rfl
theorem kv_byteAt : zs_mV RX10 yX10_byteAt cX10_byteAt 2 (some .int) 1 := ⟨q1770, qs64, q152, q1771, by decide, by decide +kernel⟩
def gm_byteAt (M : zm_S) (a1 : Int32) : Option (Int32) :=
if a1 < (M.1 4) then ((zs_ald 2000 (M.2.1 3) a1).bind fun x1 =>
some (x1 &&& 255))
else (some 0)
set_option maxHeartbeats 4000000 in
theorem km_byteAt (D : zs_D) (h0 : zs_AH) (m : Nat) (M : zm_S) (a1 : Int32) : zs_Con D (zm_R h0 m) zm_bd zs_eI yX10_byteAt cX10_byteAt 2 (some .int) 0 [.ref m, .int a1] M ((gm_byteAt M a1).map fun x => (x, M)) := by
  unfold gm_byteAt
  refine zs_conR (own := RX10) (nm := "byteAt") pl_X10 rfl rfl (Nat.le_of_ble_eq_true rfl) ?_
  refine zs_lv (lv' := [(0, .ref m), (1, .int a1)]) rfl ?_
  refine zs_iload_n (pc := 0) 1 dX10_byteAt_0 rfl rfl ?_
  refine zs_aload_n (pc := 1) 0 dX10_byteAt_1 rfl rfl ?_
  refine zm_geti (pc := 2) 4 (by decide) rfl q1537 dX10_byteAt_2 ?_
  refine zs_icmp_ge (pc := 5) (tgt := 21) dX10_byteAt_5 (by decide) ?_ ?_
  · refine zs_aload_n (pc := 8) 0 dX10_byteAt_8 rfl rfl ?_
    refine zm_geta (pc := 9) 3 1 (by decide) rfl q1536 dX10_byteAt_9 ?_
    refine zs_iload_n (pc := 12) 1 dX10_byteAt_12 rfl rfl ?_
    refine zm_bald (pc := 13) 3 1 zm_p3 dX10_byteAt_13 (fun x1 => ?_)
    refine zs_sipush (pc := 14) (v := 255) dX10_byteAt_14 (by decide) ?_
    refine zs_iand (pc := 17) dX10_byteAt_17 ?_
    refine zs_goto (pc := 18) (tgt := 22) dX10_byteAt_18 (by decide) ?_
    exact zs_iret (pc := 22) dX10_byteAt_22 rfl rfl rfl
  · refine zs_iconst (pc := 21) (v := 0) dX10_byteAt_21 rfl ?_
    exact zs_iret (pc := 22) dX10_byteAt_22 rfl rfl rfl
theorem kv_token : zs_mV RX10 yX10_token cX10_token 6 none 4 := ⟨q1774, qs65, q152, q1775, by decide, by decide +kernel⟩
def gm_token (M : zm_S) (a1 : Int32) (a2 : Int32) (a3 : Int32) (a4 : Int64) : Option (zm_S) :=
(zs_ast 403 (M.1 10) (zm_sA M 5 (M.1 10) a1)).bind fun M1 =>
(zs_ast 403 (M1.1 10) (zm_sA M1 6 (M1.1 10) a2)).bind fun M2 =>
(zs_ast 403 (M2.1 10) (zm_sA M2 7 (M2.1 10) a3)).bind fun M3 =>
(zs_ast 403 (M3.1 10) (zm_sL M3 8 (M3.1 10) a4)).bind fun M4 =>
(some (zm_sF M4 10 ((M4.1 10) + 1))).bind fun M5 =>
some M5
set_option maxHeartbeats 4000000 in
theorem km_token (D : zs_D) (h0 : zs_AH) (m : Nat) (M : zm_S) (a1 : Int32) (a2 : Int32) (a3 : Int32) (a4 : Int64) : zs_Con D (zm_R h0 m) zm_bd zs_eV yX10_token cX10_token 6 none 0 [.ref m, .int a1, .int a2, .int a3, .long a4] M ((gm_token M a1 a2 a3 a4).map fun x => ((), x)) := by
  unfold gm_token
  refine zs_conV (own := RX10) (nm := "token") pl_X10 rfl rfl (Nat.le_of_ble_eq_true rfl) ?_
  refine zs_lv (lv' := [(0, .ref m), (1, .int a1), (2, .int a2), (3, .int a3), (4, .long a4)]) rfl ?_
  refine zs_aload_n (pc := 0) 0 dX10_token_0 rfl rfl ?_
  refine zm_geta (pc := 1) 5 2 (by decide) rfl q1538 dX10_token_1 ?_
  refine zs_aload_n (pc := 4) 0 dX10_token_4 rfl rfl ?_
  refine zm_geti (pc := 5) 10 (by decide) rfl q1543 dX10_token_5 ?_
  refine zs_iload_n (pc := 8) 1 dX10_token_8 rfl rfl ?_
  refine zm_iast (pc := 9) 5 2 zm_p5 dX10_token_9 (fun M1 => ?_)
  refine zs_aload_n (pc := 10) 0 dX10_token_10 rfl rfl ?_
  refine zm_geta (pc := 11) 6 3 (by decide) rfl q1539 dX10_token_11 ?_
  refine zs_aload_n (pc := 14) 0 dX10_token_14 rfl rfl ?_
  refine zm_geti (pc := 15) 10 (by decide) rfl q1543 dX10_token_15 ?_
  refine zs_iload_n (pc := 18) 2 dX10_token_18 rfl rfl ?_
  refine zm_iast (pc := 19) 6 3 zm_p6 dX10_token_19 (fun M2 => ?_)
  refine zs_aload_n (pc := 20) 0 dX10_token_20 rfl rfl ?_
  refine zm_geta (pc := 21) 7 4 (by decide) rfl q1540 dX10_token_21 ?_
  refine zs_aload_n (pc := 24) 0 dX10_token_24 rfl rfl ?_
  refine zm_geti (pc := 25) 10 (by decide) rfl q1543 dX10_token_25 ?_
  refine zs_iload_n (pc := 28) 3 dX10_token_28 rfl rfl ?_
  refine zm_iast (pc := 29) 7 4 zm_p7 dX10_token_29 (fun M3 => ?_)
  refine zs_aload_n (pc := 30) 0 dX10_token_30 rfl rfl ?_
  refine zm_geta (pc := 31) 8 5 (by decide) rfl q1541 dX10_token_31 ?_
  refine zs_aload_n (pc := 34) 0 dX10_token_34 rfl rfl ?_
  refine zm_geti (pc := 35) 10 (by decide) rfl q1543 dX10_token_35 ?_
  refine zs_lload (pc := 38) 4 dX10_token_38 rfl ?_
  refine zm_last (pc := 40) 8 5 zm_p8 dX10_token_40 (fun M4 => ?_)
  refine zs_aload_n (pc := 41) 0 dX10_token_41 rfl rfl ?_
  refine zs_dup (pc := 42) dX10_token_42 rfl ?_
  refine zm_geti (pc := 43) 10 (by decide) rfl q1543 dX10_token_43 ?_
  refine zs_iconst (pc := 46) (v := 1) dX10_token_46 rfl ?_
  refine zs_iadd (pc := 47) dX10_token_47 ?_
  refine zm_puti (pc := 48) 10 (by decide) rfl q1543 rfl rfl rfl dX10_token_48 ?_
  refine zs_nmM (fun M5 => ?_)
  exact zs_vret (pc := 51) dX10_token_51 rfl rfl
theorem kv_isLetter : zs_mS yX10_isLetter cX10_isLetter 1 (some .boolean) 1 := ⟨q1777, q152, q1778, by decide, by decide +kernel⟩
def gm_isLetter (a0 : Int32) : Option (Bool) :=
zs_let (fun (p1 : Unit) => some false) fun J16 =>
if a0 < 97 then (J16 ())
else (if 122 < a0 then (J16 ())
else (some true))
set_option maxHeartbeats 4000000 in
theorem km_isLetter {σ : Type} (D : zs_D) (Rl : σ → zs_AH → Prop) (bd : σ → Nat × Nat) (M : σ) (a0 : Int32) : zs_Con D Rl bd zs_eB yX10_isLetter cX10_isLetter 1 (some .boolean) 0 [.int a0] M ((gm_isLetter a0).map fun x => (x, M)) := by
  unfold gm_isLetter
  refine zs_conR (own := RX10) (nm := "isLetter") pl_X10 rfl rfl (Nat.le_of_ble_eq_true rfl) ?_
  refine zs_lv (lv' := [(0, .int a0)]) rfl ?_
  refine zs_iload_n (pc := 0) 0 dX10_isLetter_0 rfl rfl ?_
  refine zs_bipush (pc := 1) (v := 97) dX10_isLetter_1 (by decide) ?_
  refine zs_letJ (pc := 3) (fun (p1 : Unit) => M) 16 (fun (p1 : Unit) => []) (fun (p1 : Unit) => []) (fun p1 => ?_) (fun J16 h16 => ?_)
  · refine zs_iconst (pc := 16) (v := 0) dX10_isLetter_16 rfl ?_
    exact zs_iret (pc := 17) dX10_isLetter_17 rfl rfl rfl
  · refine zs_icmp_lt (pc := 3) (tgt := 16) dX10_isLetter_3 (by decide) ?_ ?_
    · refine zs_sub (lv' := []) [] rfl ?_
      exact h16 ()
    · refine zs_iload_n (pc := 6) 0 dX10_isLetter_6 rfl rfl ?_
      refine zs_bipush (pc := 7) (v := 122) dX10_isLetter_7 (by decide) ?_
      refine zs_icmp_gt (pc := 9) (tgt := 16) dX10_isLetter_9 (by decide) ?_ ?_
      · refine zs_sub (lv' := []) [] rfl ?_
        exact h16 ()
      · refine zs_iconst (pc := 12) (v := 1) dX10_isLetter_12 rfl ?_
        refine zs_goto (pc := 13) (tgt := 17) dX10_isLetter_13 (by decide) ?_
        exact zs_iret (pc := 17) dX10_isLetter_17 rfl rfl rfl
theorem kv_isDigit : zs_mS yX10_isDigit cX10_isDigit 1 (some .boolean) 1 := ⟨q1780, q152, q1781, by decide, by decide +kernel⟩
def gm_isDigit (a0 : Int32) : Option (Bool) :=
zs_let (fun (p1 : Unit) => some false) fun J16 =>
if a0 < 48 then (J16 ())
else (if 57 < a0 then (J16 ())
else (some true))
set_option maxHeartbeats 4000000 in
theorem km_isDigit {σ : Type} (D : zs_D) (Rl : σ → zs_AH → Prop) (bd : σ → Nat × Nat) (M : σ) (a0 : Int32) : zs_Con D Rl bd zs_eB yX10_isDigit cX10_isDigit 1 (some .boolean) 0 [.int a0] M ((gm_isDigit a0).map fun x => (x, M)) := by
  unfold gm_isDigit
  refine zs_conR (own := RX10) (nm := "isDigit") pl_X10 rfl rfl (Nat.le_of_ble_eq_true rfl) ?_
  refine zs_lv (lv' := [(0, .int a0)]) rfl ?_
  refine zs_iload_n (pc := 0) 0 dX10_isDigit_0 rfl rfl ?_
  refine zs_bipush (pc := 1) (v := 48) dX10_isDigit_1 (by decide) ?_
  refine zs_letJ (pc := 3) (fun (p1 : Unit) => M) 16 (fun (p1 : Unit) => []) (fun (p1 : Unit) => []) (fun p1 => ?_) (fun J16 h16 => ?_)
  · refine zs_iconst (pc := 16) (v := 0) dX10_isDigit_16 rfl ?_
    exact zs_iret (pc := 17) dX10_isDigit_17 rfl rfl rfl
  · refine zs_icmp_lt (pc := 3) (tgt := 16) dX10_isDigit_3 (by decide) ?_ ?_
    · refine zs_sub (lv' := []) [] rfl ?_
      exact h16 ()
    · refine zs_iload_n (pc := 6) 0 dX10_isDigit_6 rfl rfl ?_
      refine zs_bipush (pc := 7) (v := 57) dX10_isDigit_7 (by decide) ?_
      refine zs_icmp_gt (pc := 9) (tgt := 16) dX10_isDigit_9 (by decide) ?_ ?_
      · refine zs_sub (lv' := []) [] rfl ?_
        exact h16 ()
      · refine zs_iconst (pc := 12) (v := 1) dX10_isDigit_12 rfl ?_
        refine zs_goto (pc := 13) (tgt := 17) dX10_isDigit_13 (by decide) ?_
        exact zs_iret (pc := 17) dX10_isDigit_17 rfl rfl rfl
theorem kv_sign : zs_mV RX10 yX10_sign cX10_sign 5 (some .int) 3 := ⟨q1784, qs66, q152, q1785, by decide, by decide +kernel⟩
def gm_sign (M : zm_S) (a1 : Int32) (a2 : Int32) (a3 : Int32) : Option (Int32 × zm_S) :=
(if a2 = 59 then (some 4)
else (if a2 = 61 then (some 5)
else (if a2 = 40 then (some 6)
else (if a2 = 41 then (some 7)
else (some 3))))).bind fun (p1 : Int32) =>
(if a2 = 43 then (some 8)
else (some p1)).bind fun (p2 : Int32) =>
(if a2 = 45 then (some 9)
else (some p2)).bind fun (p3 : Int32) =>
(if a2 = 42 then (some 10)
else (some p3)).bind fun (p4 : Int32) =>
(if a2 = 47 then (some 15)
else (some p4)).bind fun (p5 : Int32) =>
(if a2 = 60 then (some 13)
else (some p5)).bind fun (p6 : Int32) =>
(gm_token M p6 a1 0 0).bind fun M7 =>
some (1, M7)
set_option maxHeartbeats 4000000 in
theorem km_sign (D : zs_D) (h0 : zs_AH) (m : Nat) (M : zm_S) (a1 : Int32) (a2 : Int32) (a3 : Int32) : zs_Con D (zm_R h0 m) zm_bd zs_eI yX10_sign cX10_sign 5 (some .int) 1 [.ref m, .int a1, .int a2, .int a3] M (gm_sign M a1 a2 a3) := by
  unfold gm_sign
  refine zs_con (own := RX10) (nm := "sign") pl_X10 rfl rfl (Nat.le_of_ble_eq_true rfl) ?_
  refine zs_lv (lv' := [(0, .ref m), (1, .int a1), (2, .int a2), (3, .int a3)]) rfl ?_
  refine zs_iload_n (pc := 0) 2 dX10_sign_0 rfl rfl ?_
  refine zs_bipush (pc := 1) (v := 59) dX10_sign_1 (by decide) ?_
  refine zs_join (pc := 3) (fun (p1 : Int32) => M) 43 (fun (p1 : Int32) => [(0, .ref m), (1, .int a1), (2, .int a2)]) (fun (p1 : Int32) => [.int p1]) (fun p1 => ?_) (fun h43 => ?_)
  · refine zs_istore (pc := 43) (lv' := [(0, .ref m), (1, .int a1), (2, .int a2), (4, .int p1)]) [1, 2, 3, 0] dX10_sign_43 (by decide) rfl ?_
    refine zs_iload_n (pc := 45) 2 dX10_sign_45 rfl rfl ?_
    refine zs_bipush (pc := 46) (v := 43) dX10_sign_46 (by decide) ?_
    refine zs_join (pc := 48) (fun (p2 : Int32) => M) 55 (fun (p2 : Int32) => [(0, .ref m), (1, .int a1), (2, .int a2), (4, .int p2)]) (fun (p2 : Int32) => []) (fun p2 => ?_) (fun h55 => ?_)
    · refine zs_iload_n (pc := 55) 2 dX10_sign_55 rfl rfl ?_
      refine zs_bipush (pc := 56) (v := 45) dX10_sign_56 (by decide) ?_
      refine zs_join (pc := 58) (fun (p3 : Int32) => M) 65 (fun (p3 : Int32) => [(0, .ref m), (1, .int a1), (2, .int a2), (4, .int p3)]) (fun (p3 : Int32) => []) (fun p3 => ?_) (fun h65 => ?_)
      · refine zs_iload_n (pc := 65) 2 dX10_sign_65 rfl rfl ?_
        refine zs_bipush (pc := 66) (v := 42) dX10_sign_66 (by decide) ?_
        refine zs_join (pc := 68) (fun (p4 : Int32) => M) 75 (fun (p4 : Int32) => [(0, .ref m), (1, .int a1), (2, .int a2), (4, .int p4)]) (fun (p4 : Int32) => []) (fun p4 => ?_) (fun h75 => ?_)
        · refine zs_iload_n (pc := 75) 2 dX10_sign_75 rfl rfl ?_
          refine zs_bipush (pc := 76) (v := 47) dX10_sign_76 (by decide) ?_
          refine zs_join (pc := 78) (fun (p5 : Int32) => M) 85 (fun (p5 : Int32) => [(0, .ref m), (1, .int a1), (2, .int a2), (4, .int p5)]) (fun (p5 : Int32) => []) (fun p5 => ?_) (fun h85 => ?_)
          · refine zs_iload_n (pc := 85) 2 dX10_sign_85 rfl rfl ?_
            refine zs_bipush (pc := 86) (v := 60) dX10_sign_86 (by decide) ?_
            refine zs_join (pc := 88) (fun (p6 : Int32) => M) 95 (fun (p6 : Int32) => [(0, .ref m), (1, .int a1), (4, .int p6)]) (fun (p6 : Int32) => []) (fun p6 => ?_) (fun h95 => ?_)
            · refine zs_aload_n (pc := 95) 0 dX10_sign_95 rfl rfl ?_
              refine zs_iload (pc := 96) 2 dX10_sign_96 rfl ?_
              refine zs_iload_n (pc := 98) 1 dX10_sign_98 rfl rfl ?_
              refine zs_iconst (pc := 99) (v := 0) dX10_sign_99 rfl ?_
              refine zs_lconst (pc := 100) (v := 0) dX10_sign_100 rfl ?_
              refine zs_callVv (pc := 101) [.int p6, .int a1, .int 0, .long 0] [] (km_token D h0 m M p6 a1 0 0) kv_token q1772 zc_X10 zm_recv dX10_sign_101 rfl rfl (Nat.le_of_ble_eq_true rfl) (Nat.le_of_ble_eq_true rfl) (fun M7 => ?_)
              refine zs_iconst (pc := 104) (v := 1) dX10_sign_104 rfl ?_
              exact zs_iret (pc := 105) dX10_sign_105 rfl rfl rfl
            · refine zs_icmp_ne (pc := 88) (tgt := 95) dX10_sign_88 (by decide) ?_ ?_
              · refine zs_bipush (pc := 91) (v := 13) dX10_sign_91 (by decide) ?_
                refine zs_istore (pc := 93) (lv' := [(0, .ref m), (1, .int a1), (2, .int a2), (4, .int 13)]) [1, 2, 3, 0] dX10_sign_93 (by decide) rfl ?_
                refine zs_sub (lv' := [(0, .ref m), (1, .int a1), (4, .int 13)]) [0, 1, 3] rfl ?_
                exact h95 13
              · refine zs_sub (lv' := [(0, .ref m), (1, .int a1), (4, .int p5)]) [0, 1, 3] rfl ?_
                exact h95 p5
          · refine zs_icmp_ne (pc := 78) (tgt := 85) dX10_sign_78 (by decide) ?_ ?_
            · refine zs_bipush (pc := 81) (v := 15) dX10_sign_81 (by decide) ?_
              refine zs_istore (pc := 83) (lv' := [(0, .ref m), (1, .int a1), (2, .int a2), (4, .int 15)]) [1, 2, 3, 0] dX10_sign_83 (by decide) rfl ?_
              exact h85 15
            · exact h85 p4
        · refine zs_icmp_ne (pc := 68) (tgt := 75) dX10_sign_68 (by decide) ?_ ?_
          · refine zs_bipush (pc := 71) (v := 10) dX10_sign_71 (by decide) ?_
            refine zs_istore (pc := 73) (lv' := [(0, .ref m), (1, .int a1), (2, .int a2), (4, .int 10)]) [1, 2, 3, 0] dX10_sign_73 (by decide) rfl ?_
            exact h75 10
          · exact h75 p3
      · refine zs_icmp_ne (pc := 58) (tgt := 65) dX10_sign_58 (by decide) ?_ ?_
        · refine zs_bipush (pc := 61) (v := 9) dX10_sign_61 (by decide) ?_
          refine zs_istore (pc := 63) (lv' := [(0, .ref m), (1, .int a1), (2, .int a2), (4, .int 9)]) [1, 2, 3, 0] dX10_sign_63 (by decide) rfl ?_
          exact h65 9
        · exact h65 p2
    · refine zs_icmp_ne (pc := 48) (tgt := 55) dX10_sign_48 (by decide) ?_ ?_
      · refine zs_bipush (pc := 51) (v := 8) dX10_sign_51 (by decide) ?_
        refine zs_istore (pc := 53) (lv' := [(0, .ref m), (1, .int a1), (2, .int a2), (4, .int 8)]) [1, 2, 3, 0] dX10_sign_53 (by decide) rfl ?_
        exact h55 8
      · exact h55 p1
  · refine zs_icmp_ne (pc := 3) (tgt := 10) dX10_sign_3 (by decide) ?_ ?_
    · refine zs_iconst (pc := 6) (v := 4) dX10_sign_6 rfl ?_
      refine zs_goto (pc := 7) (tgt := 43) dX10_sign_7 (by decide) ?_
      refine zs_sub (lv' := [(0, .ref m), (1, .int a1), (2, .int a2)]) [0, 1, 2] rfl ?_
      exact h43 4
    · refine zs_iload_n (pc := 10) 2 dX10_sign_10 rfl rfl ?_
      refine zs_bipush (pc := 11) (v := 61) dX10_sign_11 (by decide) ?_
      refine zs_icmp_ne (pc := 13) (tgt := 20) dX10_sign_13 (by decide) ?_ ?_
      · refine zs_iconst (pc := 16) (v := 5) dX10_sign_16 rfl ?_
        refine zs_goto (pc := 17) (tgt := 43) dX10_sign_17 (by decide) ?_
        refine zs_sub (lv' := [(0, .ref m), (1, .int a1), (2, .int a2)]) [0, 1, 2] rfl ?_
        exact h43 5
      · refine zs_iload_n (pc := 20) 2 dX10_sign_20 rfl rfl ?_
        refine zs_bipush (pc := 21) (v := 40) dX10_sign_21 (by decide) ?_
        refine zs_icmp_ne (pc := 23) (tgt := 31) dX10_sign_23 (by decide) ?_ ?_
        · refine zs_bipush (pc := 26) (v := 6) dX10_sign_26 (by decide) ?_
          refine zs_goto (pc := 28) (tgt := 43) dX10_sign_28 (by decide) ?_
          refine zs_sub (lv' := [(0, .ref m), (1, .int a1), (2, .int a2)]) [0, 1, 2] rfl ?_
          exact h43 6
        · refine zs_iload_n (pc := 31) 2 dX10_sign_31 rfl rfl ?_
          refine zs_bipush (pc := 32) (v := 41) dX10_sign_32 (by decide) ?_
          refine zs_icmp_ne (pc := 34) (tgt := 42) dX10_sign_34 (by decide) ?_ ?_
          · refine zs_bipush (pc := 37) (v := 7) dX10_sign_37 (by decide) ?_
            refine zs_goto (pc := 39) (tgt := 43) dX10_sign_39 (by decide) ?_
            refine zs_sub (lv' := [(0, .ref m), (1, .int a1), (2, .int a2)]) [0, 1, 2] rfl ?_
            exact h43 7
          · refine zs_iconst (pc := 42) (v := 3) dX10_sign_42 rfl ?_
            refine zs_sub (lv' := [(0, .ref m), (1, .int a1), (2, .int a2)]) [0, 1, 2] rfl ?_
            exact h43 3
theorem kv_cut : zs_mV RX10 yX10_cut cX10_cut 8 none 0 := ⟨q1766, qs63, q152, q1767, by decide, by decide +kernel⟩
def gm_cut_L208 (t7 : Int32 × zm_S) : (Int32 × Int32) → Option ((Int32 × Int32) ⊕ (Int32 × Int32)) := fun t208 =>
(gm_byteAt t7.2 (t7.1 + t208.1)).bind fun x10 =>
(gm_isDigit x10).bind fun b11 =>
if b11 = true then ((if t208.1 < 4 then ((gm_byteAt t7.2 (t7.1 + t208.1)).bind fun x13 =>
(some (((10 * t208.2) + x13) - 48)).bind fun x14 =>
some x14)
else (some t208.2)).bind fun (p12 : Int32) =>
some (Sum.inl ((t208.1 + 1), p12)))
else (some (Sum.inr (t208.1, t208.2)))
def gm_cut_L85 (t7 : Int32 × zm_S) : (Int32 × Int64) → Option ((Int32 × Int64) ⊕ (Int32 × Int64)) := fun t85 =>
(gm_byteAt t7.2 (t7.1 + t85.1)).bind fun x19 =>
(gm_isLetter x19).bind fun b20 =>
if b20 = true then ((if t85.1 < 8 then ((gm_byteAt t7.2 (t7.1 + t85.1)).bind fun x22 =>
(gm_appends t85.2 x22).bind fun l23 =>
some l23)
else (some t85.2)).bind fun (p21 : Int64) =>
some (Sum.inl ((t85.1 + 1), p21)))
else (some (Sum.inr (t85.1, t85.2)))
def gm_cut_L146 (t7 : Int32 × zm_S) (r24 : Int32 × Int64) : (Int32 × Int32) → Option ((Int32 × Int32) ⊕ (Int32)) := fun t146 =>
if t146.2 < 22 then ((zs_ald 22 (t7.2.2.2 9) t146.2).bind fun l29 =>
if l29 = r24.2 then ((some (20 + t146.2)).bind fun x30 =>
some (Sum.inl (x30, (t146.2 + 1))))
else (some (Sum.inl (t146.1, (t146.2 + 1)))))
else (some (Sum.inr t146.1))
def gm_cut_L7 : (Int32 × zm_S) → Option ((Int32 × zm_S) ⊕ ((zm_S) ⊕ (zm_S))) := fun t7 =>
if 400 < (t7.2.1 10) then (some (Sum.inr (Sum.inr t7.2)))
else ((gm_byteAt t7.2 t7.1).bind fun x2 =>
if t7.1 < (t7.2.1 4) then ((zs_let (fun (p4 : Unit) => some ((t7.1 + 1), t7.2)) fun J67 =>
if x2 = 9 then (J67 ())
else (if x2 = 10 then (J67 ())
else (if x2 = 13 then (J67 ())
else (if x2 = 32 then (J67 ())
else ((gm_isLetter x2).bind fun b5 =>
if b5 = true then ((zs_loop 5000 (gm_cut_L85 t7) (0, 0)).bind fun (r24 : Int32 × Int64) =>
(if 8 < r24.1 then (some 3)
else (some 1)).bind fun (p25 : Int32) =>
(if 8 < r24.1 then (some p25)
else ((zs_loop 5000 (gm_cut_L146 t7 r24) (p25, 0)).bind fun (r31 : Int32) =>
some r31)).bind fun (p26 : Int32) =>
(gm_token t7.2 p26 t7.1 0 r24.2).bind fun M27 =>
(some (t7.1 + r24.1)).bind fun x28 =>
some (x28, M27))
else ((gm_isDigit x2).bind fun b6 =>
if b6 = true then ((zs_loop 5000 (gm_cut_L208 t7) (0, 0)).bind fun (r15 : Int32 × Int32) =>
(if 4 < r15.1 then (some 3)
else (some 2)).bind fun (p16 : Int32) =>
(gm_token t7.2 p16 t7.1 r15.2 0).bind fun M17 =>
(some (t7.1 + r15.1)).bind fun x18 =>
some (x18, M17))
else ((gm_byteAt t7.2 (t7.1 + 1)).bind fun x7 =>
(gm_sign t7.2 t7.1 x2 x7).bind fun p8 =>
(some (t7.1 + p8.1)).bind fun x9 =>
some (x9, p8.2)))))))).bind fun (p3 : Int32 × zm_S) =>
some (Sum.inl (p3.1, p3.2)))
else (some (Sum.inr (Sum.inl t7.2))))
def gm_cut (M : zm_S) : Option (zm_S) :=
(some (zm_sF M 10 0)).bind fun M1 =>
(zs_loop 5000 gm_cut_L7 (0, M1)).bind (Sum.elim (fun (r32 : zm_S) =>
(gm_token r32 0 (r32.1 4) 0 0).bind fun M33 =>
some M33)
 (fun z => some z))
set_option maxHeartbeats 4000000 in
theorem km_cut (D : zs_D) (h0 : zs_AH) (m : Nat) (M : zm_S) : zs_Con D (zm_R h0 m) zm_bd zs_eV yX10_cut cX10_cut 8 none 2 [.ref m] M ((gm_cut M).map fun x => ((), x)) := by
  unfold gm_cut
  refine zs_conV (own := RX10) (nm := "cut") pl_X10 rfl rfl (Nat.le_of_ble_eq_true rfl) ?_
  refine zs_lv (lv' := [(0, .ref m)]) rfl ?_
  refine zs_aload_n (pc := 0) 0 dX10_cut_0 rfl rfl ?_
  refine zs_iconst (pc := 1) (v := 0) dX10_cut_1 rfl ?_
  refine zm_puti (pc := 2) 10 (by decide) rfl q1543 rfl rfl rfl dX10_cut_2 ?_
  refine zs_nmM (fun M1 => ?_)
  refine zs_iconst (pc := 5) (v := 0) dX10_cut_5 rfl ?_
  refine zs_istore_n (pc := 6) (lv' := [(0, .ref m), (1, .int 0)]) [1, 0] dX10_cut_6 rfl (by decide) rfl ?_
  refine zs_whileR (pc := 7) (fun (t7 : Int32 × zm_S) => t7.2) (fun (t7 : Int32 × zm_S) => [(0, .ref m), (1, .int t7.1)]) 5000 (0, M1) (fun (r32 : zm_S) => r32) 31 (fun (r32 : zm_S) => [(0, .ref m)]) [] (fun r32 => ?_) (fun X7 hL7 hE7 hR7 t7 => ?_)
  · refine zs_aload_n (pc := 31) 0 dX10_cut_31 rfl rfl ?_
    refine zs_iconst (pc := 32) (v := 0) dX10_cut_32 rfl ?_
    refine zs_aload_n (pc := 33) 0 dX10_cut_33 rfl rfl ?_
    refine zm_geti (pc := 34) 4 (by decide) rfl q1537 dX10_cut_34 ?_
    refine zs_iconst (pc := 37) (v := 0) dX10_cut_37 rfl ?_
    refine zs_lconst (pc := 38) (v := 0) dX10_cut_38 rfl ?_
    refine zs_callVv (pc := 39) [.int 0, .int (r32.1 4), .int 0, .long 0] [] (km_token D h0 m r32 0 (r32.1 4) 0 0) kv_token q1772 zc_X10 zm_recv dX10_cut_39 rfl rfl (Nat.le_of_ble_eq_true rfl) (Nat.le_of_ble_eq_true rfl) (fun M33 => ?_)
    exact zs_vret (pc := 42) dX10_cut_42 rfl rfl
  · unfold gm_cut_L7
    refine zs_aload_n (pc := 7) 0 dX10_cut_7 rfl rfl ?_
    refine zm_geti (pc := 8) 10 (by decide) rfl q1543 dX10_cut_8 ?_
    refine zs_sipush (pc := 11) (v := 400) dX10_cut_11 (by decide) ?_
    refine zs_icmp_gt (pc := 14) (tgt := 294) dX10_cut_14 (by decide) ?_ ?_
    · exact zs_vret (pc := 294) dX10_cut_294 ((hR7 _).trans rfl) rfl
    · refine zs_aload_n (pc := 17) 0 dX10_cut_17 rfl rfl ?_
      refine zs_iload_n (pc := 18) 1 dX10_cut_18 rfl rfl ?_
      refine zs_callVrI (pc := 19) [.int t7.1] [] (km_byteAt D h0 m t7.2 t7.1) kv_byteAt q1768 zc_X10 zm_recv dX10_cut_19 rfl rfl (Nat.le_of_ble_eq_true rfl) (Nat.le_of_ble_eq_true rfl) (fun x2 => ?_)
      refine zs_istore_n (pc := 22) (lv' := [(0, .ref m), (1, .int t7.1), (2, .int x2)]) [1, 2, 0] dX10_cut_22 rfl (by decide) rfl ?_
      refine zs_iload_n (pc := 23) 1 dX10_cut_23 rfl rfl ?_
      refine zs_aload_n (pc := 24) 0 dX10_cut_24 rfl rfl ?_
      refine zm_geti (pc := 25) 4 (by decide) rfl q1537 dX10_cut_25 ?_
      refine zs_icmp_lt (pc := 28) (tgt := 43) dX10_cut_28 (by decide) ?_ ?_
      · refine zs_iload_n (pc := 43) 2 dX10_cut_43 rfl rfl ?_
        refine zs_bipush (pc := 44) (v := 9) dX10_cut_44 (by decide) ?_
        refine zs_join (pc := 46) (fun (p3 : Int32 × zm_S) => p3.2) 291 (fun (p3 : Int32 × zm_S) => [(0, .ref m), (1, .int p3.1)]) (fun (p3 : Int32 × zm_S) => []) (fun p3 => ?_) (fun h291 => ?_)
        · refine zs_goto (pc := 291) (tgt := 7) dX10_cut_291 (by decide) ?_
          exact hL7 (p3.1, p3.2)
        · refine zs_letJ (pc := 46) (fun (p4 : Unit) => t7.2) 67 (fun (p4 : Unit) => [(0, .ref m), (1, .int t7.1)]) (fun (p4 : Unit) => []) (fun p4 => ?_) (fun J67 h67 => ?_)
          · refine zs_iinc (pc := 67) (lv' := [(0, .ref m), (1, .int (t7.1 + 1))]) 1 [1, 0] dX10_cut_67 rfl rfl (by decide) rfl ?_
            refine zs_goto (pc := 70) (tgt := 291) dX10_cut_70 (by decide) ?_
            exact h291 ((t7.1 + 1), t7.2)
          · refine zs_icmp_eq (pc := 46) (tgt := 67) dX10_cut_46 (by decide) ?_ ?_
            · refine zs_sub (lv' := [(0, .ref m), (1, .int t7.1)]) [0, 1] rfl ?_
              exact h67 ()
            · refine zs_iload_n (pc := 49) 2 dX10_cut_49 rfl rfl ?_
              refine zs_bipush (pc := 50) (v := 10) dX10_cut_50 (by decide) ?_
              refine zs_icmp_eq (pc := 52) (tgt := 67) dX10_cut_52 (by decide) ?_ ?_
              · refine zs_sub (lv' := [(0, .ref m), (1, .int t7.1)]) [0, 1] rfl ?_
                exact h67 ()
              · refine zs_iload_n (pc := 55) 2 dX10_cut_55 rfl rfl ?_
                refine zs_bipush (pc := 56) (v := 13) dX10_cut_56 (by decide) ?_
                refine zs_icmp_eq (pc := 58) (tgt := 67) dX10_cut_58 (by decide) ?_ ?_
                · refine zs_sub (lv' := [(0, .ref m), (1, .int t7.1)]) [0, 1] rfl ?_
                  exact h67 ()
                · refine zs_iload_n (pc := 61) 2 dX10_cut_61 rfl rfl ?_
                  refine zs_bipush (pc := 62) (v := 32) dX10_cut_62 (by decide) ?_
                  refine zs_icmp_ne (pc := 64) (tgt := 73) dX10_cut_64 (by decide) ?_ ?_
                  · refine zs_sub (lv' := [(0, .ref m), (1, .int t7.1)]) [0, 1] rfl ?_
                    exact h67 ()
                  · refine zs_iload_n (pc := 73) 2 dX10_cut_73 rfl rfl ?_
                    refine zs_callSrB (pc := 74) [.int x2] [] (km_isLetter D _ _ t7.2 x2) kv_isLetter q1776 dX10_cut_74 rfl rfl (Nat.le_of_ble_eq_true rfl) (Nat.le_of_ble_eq_true rfl) (fun b5 => ?_)
                    refine zs_if_f (pc := 77) (tgt := 196) dX10_cut_77 (by decide) ?_ ?_
                    · refine zs_iconst (pc := 80) (v := 0) dX10_cut_80 rfl ?_
                      refine zs_istore_n (pc := 81) (lv' := [(0, .ref m), (1, .int t7.1), (2, .int x2), (3, .int 0)]) [1, 2, 3, 0] dX10_cut_81 rfl (by decide) rfl ?_
                      refine zs_lconst (pc := 82) (v := 0) dX10_cut_82 rfl ?_
                      refine zs_lstore (pc := 83) (lv' := [(0, .ref m), (1, .int t7.1), (2, .int x2), (3, .int 0), (4, .long 0)]) [1, 2, 3, 4, 0] dX10_cut_83 (by decide) rfl ?_
                      refine zs_sub (pc := 85) (lv' := [(0, .ref m), (1, .int t7.1), (3, .int 0), (4, .long 0)]) [0, 1, 3, 4] rfl ?_
                      refine zs_whileJ (pc := 85) (fun (t85 : Int32 × Int64) => t7.2) (fun (t85 : Int32 × Int64) => [(0, .ref m), (1, .int t7.1), (3, .int t85.1), (4, .long t85.2)]) 5000 (0, 0) (fun (r24 : Int32 × Int64) => t7.2) 124 (fun (r24 : Int32 × Int64) => [(0, .ref m), (1, .int t7.1), (3, .int r24.1), (4, .long r24.2)]) [] (fun r24 => ?_) (fun X85 hL85 hE85 t85 => ?_)
                      · refine zs_iload_n (pc := 124) 2 dX10_cut_124 rfl rfl ?_
                        refine zs_bipush (pc := 125) (v := 8) dX10_cut_125 (by decide) ?_
                        refine zs_join (pc := 127) (fun (p25 : Int32) => t7.2) 135 (fun (p25 : Int32) => [(0, .ref m), (1, .int t7.1), (3, .int r24.1), (4, .long r24.2)]) (fun (p25 : Int32) => [.int p25]) (fun p25 => ?_) (fun h135 => ?_)
                        · refine zs_istore (pc := 135) (lv' := [(0, .ref m), (1, .int t7.1), (3, .int r24.1), (4, .long r24.2), (6, .int p25)]) [1, 2, 3, 4, 0] dX10_cut_135 (by decide) rfl ?_
                          refine zs_iload_n (pc := 137) 2 dX10_cut_137 rfl rfl ?_
                          refine zs_bipush (pc := 138) (v := 8) dX10_cut_138 (by decide) ?_
                          refine zs_join (pc := 140) (fun (p26 : Int32) => t7.2) 179 (fun (p26 : Int32) => [(0, .ref m), (1, .int t7.1), (3, .int r24.1), (4, .long r24.2), (6, .int p26)]) (fun (p26 : Int32) => []) (fun p26 => ?_) (fun h179 => ?_)
                          · refine zs_aload_n (pc := 179) 0 dX10_cut_179 rfl rfl ?_
                            refine zs_iload (pc := 180) 4 dX10_cut_180 rfl ?_
                            refine zs_iload_n (pc := 182) 1 dX10_cut_182 rfl rfl ?_
                            refine zs_iconst (pc := 183) (v := 0) dX10_cut_183 rfl ?_
                            refine zs_lload (pc := 184) 3 dX10_cut_184 rfl ?_
                            refine zs_callVv (pc := 186) [.int p26, .int t7.1, .int 0, .long r24.2] [] (km_token D h0 m t7.2 p26 t7.1 0 r24.2) kv_token q1772 zc_X10 zm_recv dX10_cut_186 rfl rfl (Nat.le_of_ble_eq_true rfl) (Nat.le_of_ble_eq_true rfl) (fun M27 => ?_)
                            refine zs_iload_n (pc := 189) 1 dX10_cut_189 rfl rfl ?_
                            refine zs_iload_n (pc := 190) 2 dX10_cut_190 rfl rfl ?_
                            refine zs_iadd (pc := 191) dX10_cut_191 ?_
                            refine zs_nm (fun x28 => ?_)
                            refine zs_istore_n (pc := 192) (lv' := [(0, .ref m), (1, .int x28), (3, .int r24.1), (4, .long r24.2), (6, .int p26)]) [1, 0, 2, 3, 4] dX10_cut_192 rfl (by decide) rfl ?_
                            refine zs_goto (pc := 193) (tgt := 291) dX10_cut_193 (by decide) ?_
                            refine zs_sub (lv' := [(0, .ref m), (1, .int x28)]) [0, 1] rfl ?_
                            exact h291 (x28, M27)
                          · refine zs_icmp_gt (pc := 140) (tgt := 179) dX10_cut_140 (by decide) ?_ ?_
                            · exact h179 p25
                            · refine zs_iconst (pc := 143) (v := 0) dX10_cut_143 rfl ?_
                              refine zs_istore (pc := 144) (lv' := [(0, .ref m), (1, .int t7.1), (3, .int r24.1), (4, .long r24.2), (6, .int p25), (7, .int 0)]) [1, 2, 3, 4, 5, 0] dX10_cut_144 (by decide) rfl ?_
                              refine zs_whileJ (pc := 146) (fun (t146 : Int32 × Int32) => t7.2) (fun (t146 : Int32 × Int32) => [(0, .ref m), (1, .int t7.1), (3, .int r24.1), (4, .long r24.2), (6, .int t146.1), (7, .int t146.2)]) 5000 (p25, 0) (fun (r31 : Int32) => t7.2) 179 (fun (r31 : Int32) => [(0, .ref m), (1, .int t7.1), (3, .int r24.1), (4, .long r24.2), (6, .int r31)]) [] (fun r31 => ?_) (fun X146 hL146 hE146 t146 => ?_)
                              · exact h179 r31
                              · unfold gm_cut_L146
                                refine zs_iload (pc := 146) 5 dX10_cut_146 rfl ?_
                                refine zs_bipush (pc := 148) (v := 22) dX10_cut_148 (by decide) ?_
                                refine zs_icmp_ge (pc := 150) (tgt := 179) dX10_cut_150 (by decide) ?_ ?_
                                · refine zs_aload_n (pc := 153) 0 dX10_cut_153 rfl rfl ?_
                                  refine zm_geta (pc := 154) 9 6 (by decide) rfl q1542 dX10_cut_154 ?_
                                  refine zs_iload (pc := 157) 5 dX10_cut_157 rfl ?_
                                  refine zm_lald (pc := 159) 9 6 zm_p9 dX10_cut_159 (fun l29 => ?_)
                                  refine zs_lload (pc := 160) 3 dX10_cut_160 rfl ?_
                                  refine zs_lcmp_ne (pc := 162) (tgt := 173) dX10_cut_162 dX10_cut_163 (by decide) ?_ ?_
                                  · refine zs_bipush (pc := 166) (v := 20) dX10_cut_166 (by decide) ?_
                                    refine zs_iload (pc := 168) 5 dX10_cut_168 rfl ?_
                                    refine zs_iadd (pc := 170) dX10_cut_170 ?_
                                    refine zs_nm (fun x30 => ?_)
                                    refine zs_istore (pc := 171) (lv' := [(0, .ref m), (1, .int t7.1), (3, .int r24.1), (4, .long r24.2), (6, .int x30), (7, .int t146.2)]) [1, 2, 3, 4, 0, 5] dX10_cut_171 (by decide) rfl ?_
                                    refine zs_iinc (pc := 173) (lv' := [(0, .ref m), (1, .int t7.1), (3, .int r24.1), (4, .long r24.2), (6, .int x30), (7, .int (t146.2 + 1))]) 5 [1, 2, 3, 4, 5, 0] dX10_cut_173 rfl rfl (by decide) rfl ?_
                                    refine zs_goto (pc := 176) (tgt := 146) dX10_cut_176 (by decide) ?_
                                    exact hL146 (x30, (t146.2 + 1))
                                  · refine zs_iinc (pc := 173) (lv' := [(0, .ref m), (1, .int t7.1), (3, .int r24.1), (4, .long r24.2), (6, .int t146.1), (7, .int (t146.2 + 1))]) 5 [1, 2, 3, 4, 5, 0] dX10_cut_173 rfl rfl (by decide) rfl ?_
                                    refine zs_goto (pc := 176) (tgt := 146) dX10_cut_176 (by decide) ?_
                                    exact hL146 (t146.1, (t146.2 + 1))
                                · refine zs_sub (lv' := [(0, .ref m), (1, .int t7.1), (3, .int r24.1), (4, .long r24.2), (6, .int t146.1)]) [0, 1, 2, 3, 4] rfl ?_
                                  exact hE146 t146.1
                        · refine zs_icmp_le (pc := 127) (tgt := 134) dX10_cut_127 (by decide) ?_ ?_
                          · refine zs_iconst (pc := 130) (v := 3) dX10_cut_130 rfl ?_
                            refine zs_goto (pc := 131) (tgt := 135) dX10_cut_131 (by decide) ?_
                            exact h135 3
                          · refine zs_iconst (pc := 134) (v := 1) dX10_cut_134 rfl ?_
                            exact h135 1
                      · unfold gm_cut_L85
                        refine zs_aload_n (pc := 85) 0 dX10_cut_85 rfl rfl ?_
                        refine zs_iload_n (pc := 86) 1 dX10_cut_86 rfl rfl ?_
                        refine zs_iload_n (pc := 87) 2 dX10_cut_87 rfl rfl ?_
                        refine zs_iadd (pc := 88) dX10_cut_88 ?_
                        refine zs_callVrI (pc := 89) [.int (t7.1 + t85.1)] [] (km_byteAt D h0 m t7.2 (t7.1 + t85.1)) kv_byteAt q1768 zc_X10 zm_recv dX10_cut_89 rfl rfl (Nat.le_of_ble_eq_true rfl) (Nat.le_of_ble_eq_true rfl) (fun x19 => ?_)
                        refine zs_callSrB (pc := 92) [.int x19] [] (km_isLetter D _ _ t7.2 x19) kv_isLetter q1776 dX10_cut_92 rfl rfl (Nat.le_of_ble_eq_true rfl) (Nat.le_of_ble_eq_true rfl) (fun b20 => ?_)
                        refine zs_if_f (pc := 95) (tgt := 124) dX10_cut_95 (by decide) ?_ ?_
                        · refine zs_iload_n (pc := 98) 2 dX10_cut_98 rfl rfl ?_
                          refine zs_bipush (pc := 99) (v := 8) dX10_cut_99 (by decide) ?_
                          refine zs_join (pc := 101) (fun (p21 : Int64) => t7.2) 118 (fun (p21 : Int64) => [(0, .ref m), (1, .int t7.1), (3, .int t85.1), (4, .long p21)]) (fun (p21 : Int64) => []) (fun p21 => ?_) (fun h118 => ?_)
                          · refine zs_iinc (pc := 118) (lv' := [(0, .ref m), (1, .int t7.1), (3, .int (t85.1 + 1)), (4, .long p21)]) 2 [1, 2, 0, 3] dX10_cut_118 rfl rfl (by decide) rfl ?_
                            refine zs_goto (pc := 121) (tgt := 85) dX10_cut_121 (by decide) ?_
                            exact hL85 ((t85.1 + 1), p21)
                          · refine zs_icmp_ge (pc := 101) (tgt := 118) dX10_cut_101 (by decide) ?_ ?_
                            · refine zs_lload (pc := 104) 3 dX10_cut_104 rfl ?_
                              refine zs_aload_n (pc := 106) 0 dX10_cut_106 rfl rfl ?_
                              refine zs_iload_n (pc := 107) 1 dX10_cut_107 rfl rfl ?_
                              refine zs_iload_n (pc := 108) 2 dX10_cut_108 rfl rfl ?_
                              refine zs_iadd (pc := 109) dX10_cut_109 ?_
                              refine zs_callVrI (pc := 110) [.int (t7.1 + t85.1)] [.long t85.2] (km_byteAt D h0 m t7.2 (t7.1 + t85.1)) kv_byteAt q1768 zc_X10 zm_recv dX10_cut_110 rfl rfl (Nat.le_of_ble_eq_true rfl) (Nat.le_of_ble_eq_true rfl) (fun x22 => ?_)
                              refine zs_callSrL (pc := 113) [.long t85.2, .int x22] [] (km_appends D _ _ t7.2 t85.2 x22) kv_appends q1522 dX10_cut_113 rfl rfl (Nat.le_of_ble_eq_true rfl) (Nat.le_of_ble_eq_true rfl) (fun l23 => ?_)
                              refine zs_lstore (pc := 116) (lv' := [(0, .ref m), (1, .int t7.1), (3, .int t85.1), (4, .long l23)]) [1, 2, 3, 0] dX10_cut_116 (by decide) rfl ?_
                              exact h118 l23
                            · exact h118 t85.2
                        · exact hE85 (t85.1, t85.2)
                    · refine zs_iload_n (pc := 196) 2 dX10_cut_196 rfl rfl ?_
                      refine zs_callSrB (pc := 197) [.int x2] [] (km_isDigit D _ _ t7.2 x2) kv_isDigit q1779 dX10_cut_197 rfl rfl (Nat.le_of_ble_eq_true rfl) (Nat.le_of_ble_eq_true rfl) (fun b6 => ?_)
                      refine zs_if_f (pc := 200) (tgt := 275) dX10_cut_200 (by decide) ?_ ?_
                      · refine zs_iconst (pc := 203) (v := 0) dX10_cut_203 rfl ?_
                        refine zs_istore_n (pc := 204) (lv' := [(0, .ref m), (1, .int t7.1), (2, .int x2), (3, .int 0)]) [1, 2, 3, 0] dX10_cut_204 rfl (by decide) rfl ?_
                        refine zs_iconst (pc := 205) (v := 0) dX10_cut_205 rfl ?_
                        refine zs_istore (pc := 206) (lv' := [(0, .ref m), (1, .int t7.1), (2, .int x2), (3, .int 0), (4, .int 0)]) [1, 2, 3, 4, 0] dX10_cut_206 (by decide) rfl ?_
                        refine zs_sub (pc := 208) (lv' := [(0, .ref m), (1, .int t7.1), (3, .int 0), (4, .int 0)]) [0, 1, 3, 4] rfl ?_
                        refine zs_whileJ (pc := 208) (fun (t208 : Int32 × Int32) => t7.2) (fun (t208 : Int32 × Int32) => [(0, .ref m), (1, .int t7.1), (3, .int t208.1), (4, .int t208.2)]) 5000 (0, 0) (fun (r15 : Int32 × Int32) => t7.2) 250 (fun (r15 : Int32 × Int32) => [(0, .ref m), (1, .int t7.1), (3, .int r15.1), (4, .int r15.2)]) [] (fun r15 => ?_) (fun X208 hL208 hE208 t208 => ?_)
                        · refine zs_aload_n (pc := 250) 0 dX10_cut_250 rfl rfl ?_
                          refine zs_iload_n (pc := 251) 2 dX10_cut_251 rfl rfl ?_
                          refine zs_iconst (pc := 252) (v := 4) dX10_cut_252 rfl ?_
                          refine zs_join (pc := 253) (fun (p16 : Int32) => t7.2) 261 (fun (p16 : Int32) => [(0, .ref m), (1, .int t7.1), (3, .int r15.1), (4, .int r15.2)]) (fun (p16 : Int32) => [.int p16, .ref m]) (fun p16 => ?_) (fun h261 => ?_)
                          · refine zs_iload_n (pc := 261) 1 dX10_cut_261 rfl rfl ?_
                            refine zs_iload (pc := 262) 3 dX10_cut_262 rfl ?_
                            refine zs_lconst (pc := 264) (v := 0) dX10_cut_264 rfl ?_
                            refine zs_callVv (pc := 265) [.int p16, .int t7.1, .int r15.2, .long 0] [] (km_token D h0 m t7.2 p16 t7.1 r15.2 0) kv_token q1772 zc_X10 zm_recv dX10_cut_265 rfl rfl (Nat.le_of_ble_eq_true rfl) (Nat.le_of_ble_eq_true rfl) (fun M17 => ?_)
                            refine zs_iload_n (pc := 268) 1 dX10_cut_268 rfl rfl ?_
                            refine zs_iload_n (pc := 269) 2 dX10_cut_269 rfl rfl ?_
                            refine zs_iadd (pc := 270) dX10_cut_270 ?_
                            refine zs_nm (fun x18 => ?_)
                            refine zs_istore_n (pc := 271) (lv' := [(0, .ref m), (1, .int x18), (3, .int r15.1), (4, .int r15.2)]) [1, 0, 2, 3] dX10_cut_271 rfl (by decide) rfl ?_
                            refine zs_goto (pc := 272) (tgt := 291) dX10_cut_272 (by decide) ?_
                            refine zs_sub (lv' := [(0, .ref m), (1, .int x18)]) [0, 1] rfl ?_
                            exact h291 (x18, M17)
                          · refine zs_icmp_le (pc := 253) (tgt := 260) dX10_cut_253 (by decide) ?_ ?_
                            · refine zs_iconst (pc := 256) (v := 3) dX10_cut_256 rfl ?_
                              refine zs_goto (pc := 257) (tgt := 261) dX10_cut_257 (by decide) ?_
                              exact h261 3
                            · refine zs_iconst (pc := 260) (v := 2) dX10_cut_260 rfl ?_
                              exact h261 2
                        · unfold gm_cut_L208
                          refine zs_aload_n (pc := 208) 0 dX10_cut_208 rfl rfl ?_
                          refine zs_iload_n (pc := 209) 1 dX10_cut_209 rfl rfl ?_
                          refine zs_iload_n (pc := 210) 2 dX10_cut_210 rfl rfl ?_
                          refine zs_iadd (pc := 211) dX10_cut_211 ?_
                          refine zs_callVrI (pc := 212) [.int (t7.1 + t208.1)] [] (km_byteAt D h0 m t7.2 (t7.1 + t208.1)) kv_byteAt q1768 zc_X10 zm_recv dX10_cut_212 rfl rfl (Nat.le_of_ble_eq_true rfl) (Nat.le_of_ble_eq_true rfl) (fun x10 => ?_)
                          refine zs_callSrB (pc := 215) [.int x10] [] (km_isDigit D _ _ t7.2 x10) kv_isDigit q1779 dX10_cut_215 rfl rfl (Nat.le_of_ble_eq_true rfl) (Nat.le_of_ble_eq_true rfl) (fun b11 => ?_)
                          refine zs_if_f (pc := 218) (tgt := 250) dX10_cut_218 (by decide) ?_ ?_
                          · refine zs_iload_n (pc := 221) 2 dX10_cut_221 rfl rfl ?_
                            refine zs_iconst (pc := 222) (v := 4) dX10_cut_222 rfl ?_
                            refine zs_join (pc := 223) (fun (p12 : Int32) => t7.2) 244 (fun (p12 : Int32) => [(0, .ref m), (1, .int t7.1), (3, .int t208.1), (4, .int p12)]) (fun (p12 : Int32) => []) (fun p12 => ?_) (fun h244 => ?_)
                            · refine zs_iinc (pc := 244) (lv' := [(0, .ref m), (1, .int t7.1), (3, .int (t208.1 + 1)), (4, .int p12)]) 2 [1, 2, 0, 3] dX10_cut_244 rfl rfl (by decide) rfl ?_
                              refine zs_goto (pc := 247) (tgt := 208) dX10_cut_247 (by decide) ?_
                              exact hL208 ((t208.1 + 1), p12)
                            · refine zs_icmp_ge (pc := 223) (tgt := 244) dX10_cut_223 (by decide) ?_ ?_
                              · refine zs_bipush (pc := 226) (v := 10) dX10_cut_226 (by decide) ?_
                                refine zs_iload (pc := 228) 3 dX10_cut_228 rfl ?_
                                refine zs_imul (pc := 230) dX10_cut_230 ?_
                                refine zs_aload_n (pc := 231) 0 dX10_cut_231 rfl rfl ?_
                                refine zs_iload_n (pc := 232) 1 dX10_cut_232 rfl rfl ?_
                                refine zs_iload_n (pc := 233) 2 dX10_cut_233 rfl rfl ?_
                                refine zs_iadd (pc := 234) dX10_cut_234 ?_
                                refine zs_callVrI (pc := 235) [.int (t7.1 + t208.1)] [.int (10 * t208.2)] (km_byteAt D h0 m t7.2 (t7.1 + t208.1)) kv_byteAt q1768 zc_X10 zm_recv dX10_cut_235 rfl rfl (Nat.le_of_ble_eq_true rfl) (Nat.le_of_ble_eq_true rfl) (fun x13 => ?_)
                                refine zs_iadd (pc := 238) dX10_cut_238 ?_
                                refine zs_bipush (pc := 239) (v := 48) dX10_cut_239 (by decide) ?_
                                refine zs_isub (pc := 241) dX10_cut_241 ?_
                                refine zs_nm (fun x14 => ?_)
                                refine zs_istore (pc := 242) (lv' := [(0, .ref m), (1, .int t7.1), (3, .int t208.1), (4, .int x14)]) [1, 2, 3, 0] dX10_cut_242 (by decide) rfl ?_
                                exact h244 x14
                              · exact h244 t208.2
                          · exact hE208 (t208.1, t208.2)
                      · refine zs_iload_n (pc := 275) 1 dX10_cut_275 rfl rfl ?_
                        refine zs_aload_n (pc := 276) 0 dX10_cut_276 rfl rfl ?_
                        refine zs_iload_n (pc := 277) 1 dX10_cut_277 rfl rfl ?_
                        refine zs_iload_n (pc := 278) 2 dX10_cut_278 rfl rfl ?_
                        refine zs_aload_n (pc := 279) 0 dX10_cut_279 rfl rfl ?_
                        refine zs_iload_n (pc := 280) 1 dX10_cut_280 rfl rfl ?_
                        refine zs_iconst (pc := 281) (v := 1) dX10_cut_281 rfl ?_
                        refine zs_iadd (pc := 282) dX10_cut_282 ?_
                        refine zs_callVrI (pc := 283) [.int (t7.1 + 1)] [.int x2, .int t7.1, .ref m, .int t7.1] (km_byteAt D h0 m t7.2 (t7.1 + 1)) kv_byteAt q1768 zc_X10 zm_recv dX10_cut_283 rfl rfl (Nat.le_of_ble_eq_true rfl) (Nat.le_of_ble_eq_true rfl) (fun x7 => ?_)
                        refine zs_callVwI (pc := 286) [.int t7.1, .int x2, .int x7] [.int t7.1] (km_sign D h0 m t7.2 t7.1 x2 x7) kv_sign q1782 zc_X10 zm_recv dX10_cut_286 rfl rfl (Nat.le_of_ble_eq_true rfl) (Nat.le_of_ble_eq_true rfl) (fun p8 => ?_)
                        refine zs_iadd (pc := 289) dX10_cut_289 ?_
                        refine zs_nm (fun x9 => ?_)
                        refine zs_istore_n (pc := 290) (lv' := [(0, .ref m), (1, .int x9), (2, .int x2)]) [1, 0, 2] dX10_cut_290 rfl (by decide) rfl ?_
                        refine zs_sub (lv' := [(0, .ref m), (1, .int x9)]) [0, 1] rfl ?_
                        exact h291 (x9, p8.2)
      · refine zs_sub (lv' := [(0, .ref m)]) [0] rfl ?_
        exact hE7 t7.2
theorem kv_is : zs_mV RX10 yX10_is cX10_is 2 (some .boolean) 1 := ⟨q1788, qs67, q152, q1789, by decide, by decide +kernel⟩
def gm_is (M : zm_S) (a1 : Int32) : Option (Bool) :=
zs_let (fun (p1 : Unit) => some false) fun J24 =>
if (M.1 13) = 0 then ((zs_ald 403 (M.2.1 5) (M.1 11)).bind fun x2 =>
if x2 = a1 then (some true)
else (J24 ()))
else (J24 ())
set_option maxHeartbeats 4000000 in
theorem km_is (D : zs_D) (h0 : zs_AH) (m : Nat) (M : zm_S) (a1 : Int32) : zs_Con D (zm_R h0 m) zm_bd zs_eB yX10_is cX10_is 2 (some .boolean) 0 [.ref m, .int a1] M ((gm_is M a1).map fun x => (x, M)) := by
  unfold gm_is
  refine zs_conR (own := RX10) (nm := "is") pl_X10 rfl rfl (Nat.le_of_ble_eq_true rfl) ?_
  refine zs_lv (lv' := [(0, .ref m), (1, .int a1)]) rfl ?_
  refine zs_aload_n (pc := 0) 0 dX10_is_0 rfl rfl ?_
  refine zm_geti (pc := 1) 13 (by decide) rfl q1546 dX10_is_1 ?_
  refine zs_letJ (pc := 4) (fun (p1 : Unit) => M) 24 (fun (p1 : Unit) => []) (fun (p1 : Unit) => []) (fun p1 => ?_) (fun J24 h24 => ?_)
  · refine zs_iconst (pc := 24) (v := 0) dX10_is_24 rfl ?_
    exact zs_iret (pc := 25) dX10_is_25 rfl rfl rfl
  · refine zs_if_ne (pc := 4) (tgt := 24) dX10_is_4 (by decide) ?_ ?_
    · refine zs_aload_n (pc := 7) 0 dX10_is_7 rfl rfl ?_
      refine zm_geta (pc := 8) 5 2 (by decide) rfl q1538 dX10_is_8 ?_
      refine zs_aload_n (pc := 11) 0 dX10_is_11 rfl rfl ?_
      refine zm_geti (pc := 12) 11 (by decide) rfl q1544 dX10_is_12 ?_
      refine zm_iald (pc := 15) 5 2 zm_p5 dX10_is_15 (fun x2 => ?_)
      refine zs_iload_n (pc := 16) 1 dX10_is_16 rfl rfl ?_
      refine zs_icmp_ne (pc := 17) (tgt := 24) dX10_is_17 (by decide) ?_ ?_
      · refine zs_iconst (pc := 20) (v := 1) dX10_is_20 rfl ?_
        refine zs_goto (pc := 21) (tgt := 25) dX10_is_21 (by decide) ?_
        exact zs_iret (pc := 25) dX10_is_25 rfl rfl rfl
      · refine zs_sub (lv' := []) [] rfl ?_
        exact h24 ()
    · refine zs_sub (lv' := []) [] rfl ?_
      exact h24 ()
theorem kv_fail : zs_mV RX10 yX10_fail cX10_fail 2 none 1 := ⟨q1800, qs70, q152, q1801, by decide, by decide +kernel⟩
def gm_fail (M : zm_S) (a1 : Int32) : Option (zm_S) :=
if 0 < (M.1 13) then (some M)
else ((some (zm_sF M 13 a1)).bind fun M1 =>
(zs_ald 403 (M1.2.1 6) (M1.1 11)).bind fun x2 =>
(some (zm_sF M1 14 x2)).bind fun M3 =>
some M3)
set_option maxHeartbeats 4000000 in
theorem km_fail (D : zs_D) (h0 : zs_AH) (m : Nat) (M : zm_S) (a1 : Int32) : zs_Con D (zm_R h0 m) zm_bd zs_eV yX10_fail cX10_fail 2 none 0 [.ref m, .int a1] M ((gm_fail M a1).map fun x => ((), x)) := by
  unfold gm_fail
  refine zs_conV (own := RX10) (nm := "fail") pl_X10 rfl rfl (Nat.le_of_ble_eq_true rfl) ?_
  refine zs_lv (lv' := [(0, .ref m), (1, .int a1)]) rfl ?_
  refine zs_aload_n (pc := 0) 0 dX10_fail_0 rfl rfl ?_
  refine zm_geti (pc := 1) 13 (by decide) rfl q1546 dX10_fail_1 ?_
  refine zs_if_le (pc := 4) (tgt := 8) dX10_fail_4 (by decide) ?_ ?_
  · exact zs_vret (pc := 7) dX10_fail_7 rfl rfl
  · refine zs_aload_n (pc := 8) 0 dX10_fail_8 rfl rfl ?_
    refine zs_iload_n (pc := 9) 1 dX10_fail_9 rfl rfl ?_
    refine zm_puti (pc := 10) 13 (by decide) rfl q1546 rfl rfl rfl dX10_fail_10 ?_
    refine zs_nmM (fun M1 => ?_)
    refine zs_aload_n (pc := 13) 0 dX10_fail_13 rfl rfl ?_
    refine zs_aload_n (pc := 14) 0 dX10_fail_14 rfl rfl ?_
    refine zm_geta (pc := 15) 6 3 (by decide) rfl q1539 dX10_fail_15 ?_
    refine zs_aload_n (pc := 18) 0 dX10_fail_18 rfl rfl ?_
    refine zm_geti (pc := 19) 11 (by decide) rfl q1544 dX10_fail_19 ?_
    refine zm_iald (pc := 22) 6 3 zm_p6 dX10_fail_22 (fun x2 => ?_)
    refine zm_puti (pc := 23) 14 (by decide) rfl q1547 rfl rfl rfl dX10_fail_23 ?_
    refine zs_nmM (fun M3 => ?_)
    exact zs_vret (pc := 26) dX10_fail_26 rfl rfl
theorem kv_goesOn : zs_mV RX10 yX10_goesOn cX10_goesOn 1 none 0 := ⟨q1804, qs71, q152, q1805, by decide, by decide +kernel⟩
def gm_goesOn (M : zm_S) : Option (zm_S) :=
if (M.1 11) = 400 then ((gm_fail M 2).bind fun M2 =>
some M2)
else ((some (zm_sF M 11 ((M.1 11) + 1))).bind fun M1 =>
some M1)
set_option maxHeartbeats 4000000 in
theorem km_goesOn (D : zs_D) (h0 : zs_AH) (m : Nat) (M : zm_S) : zs_Con D (zm_R h0 m) zm_bd zs_eV yX10_goesOn cX10_goesOn 1 none 1 [.ref m] M ((gm_goesOn M).map fun x => ((), x)) := by
  unfold gm_goesOn
  refine zs_conV (own := RX10) (nm := "goesOn") pl_X10 rfl rfl (Nat.le_of_ble_eq_true rfl) ?_
  refine zs_lv (lv' := [(0, .ref m)]) rfl ?_
  refine zs_aload_n (pc := 0) 0 dX10_goesOn_0 rfl rfl ?_
  refine zm_geti (pc := 1) 11 (by decide) rfl q1544 dX10_goesOn_1 ?_
  refine zs_sipush (pc := 4) (v := 400) dX10_goesOn_4 (by decide) ?_
  refine zs_icmp_ne (pc := 7) (tgt := 18) dX10_goesOn_7 (by decide) ?_ ?_
  · refine zs_aload_n (pc := 10) 0 dX10_goesOn_10 rfl rfl ?_
    refine zs_iconst (pc := 11) (v := 2) dX10_goesOn_11 rfl ?_
    refine zs_callVv (pc := 12) [.int 2] [] (km_fail D h0 m M 2) kv_fail q1798 zc_X10 zm_recv dX10_goesOn_12 rfl rfl (Nat.le_of_ble_eq_true rfl) (Nat.le_of_ble_eq_true rfl) (fun M2 => ?_)
    refine zs_goto (pc := 15) (tgt := 28) dX10_goesOn_15 (by decide) ?_
    exact zs_vret (pc := 28) dX10_goesOn_28 rfl rfl
  · refine zs_aload_n (pc := 18) 0 dX10_goesOn_18 rfl rfl ?_
    refine zs_dup (pc := 19) dX10_goesOn_19 rfl ?_
    refine zm_geti (pc := 20) 11 (by decide) rfl q1544 dX10_goesOn_20 ?_
    refine zs_iconst (pc := 23) (v := 1) dX10_goesOn_23 rfl ?_
    refine zs_iadd (pc := 24) dX10_goesOn_24 ?_
    refine zm_puti (pc := 25) 11 (by decide) rfl q1544 rfl rfl rfl dX10_goesOn_25 ?_
    refine zs_nmM (fun M1 => ?_)
    exact zs_vret (pc := 28) dX10_goesOn_28 rfl rfl
theorem kv_roomFor : zs_mV RX10 yX10_roomFor cX10_roomFor 3 none 2 := ⟨q1796, qs69, q152, q1797, by decide, by decide +kernel⟩
def gm_roomFor (M : zm_S) (a1 : Int32) (a2 : Int32) : Option (zm_S) :=
(if a1 = a2 then ((gm_fail M 2).bind fun M3 =>
some M3)
else (some M)).bind fun (p1 : zm_S) =>
if (p1.1 13) = 0 then ((gm_goesOn p1).bind fun M2 =>
some M2)
else (some p1)
set_option maxHeartbeats 4000000 in
theorem km_roomFor (D : zs_D) (h0 : zs_AH) (m : Nat) (M : zm_S) (a1 : Int32) (a2 : Int32) : zs_Con D (zm_R h0 m) zm_bd zs_eV yX10_roomFor cX10_roomFor 3 none 2 [.ref m, .int a1, .int a2] M ((gm_roomFor M a1 a2).map fun x => ((), x)) := by
  unfold gm_roomFor
  refine zs_conV (own := RX10) (nm := "roomFor") pl_X10 rfl rfl (Nat.le_of_ble_eq_true rfl) ?_
  refine zs_lv (lv' := [(0, .ref m), (1, .int a1), (2, .int a2)]) rfl ?_
  refine zs_iload_n (pc := 0) 1 dX10_roomFor_0 rfl rfl ?_
  refine zs_iload_n (pc := 1) 2 dX10_roomFor_1 rfl rfl ?_
  refine zs_join (pc := 2) (fun (p1 : zm_S) => p1) 10 (fun (p1 : zm_S) => [(0, .ref m)]) (fun (p1 : zm_S) => []) (fun p1 => ?_) (fun h10 => ?_)
  · refine zs_aload_n (pc := 10) 0 dX10_roomFor_10 rfl rfl ?_
    refine zm_geti (pc := 11) 13 (by decide) rfl q1546 dX10_roomFor_11 ?_
    refine zs_if_ne (pc := 14) (tgt := 21) dX10_roomFor_14 (by decide) ?_ ?_
    · refine zs_aload_n (pc := 17) 0 dX10_roomFor_17 rfl rfl ?_
      refine zs_callVv (pc := 18) [] [] (km_goesOn D h0 m p1) kv_goesOn q1802 zc_X10 zm_recv dX10_roomFor_18 rfl rfl (Nat.le_of_ble_eq_true rfl) (Nat.le_of_ble_eq_true rfl) (fun M2 => ?_)
      exact zs_vret (pc := 21) dX10_roomFor_21 rfl rfl
    · exact zs_vret (pc := 21) dX10_roomFor_21 rfl rfl
  · refine zs_icmp_ne (pc := 2) (tgt := 10) dX10_roomFor_2 (by decide) ?_ ?_
    · refine zs_aload_n (pc := 5) 0 dX10_roomFor_5 rfl rfl ?_
      refine zs_iconst (pc := 6) (v := 2) dX10_roomFor_6 rfl ?_
      refine zs_callVv (pc := 7) [.int 2] [] (km_fail D h0 m M 2) kv_fail q1798 zc_X10 zm_recv dX10_roomFor_7 rfl rfl (Nat.le_of_ble_eq_true rfl) (Nat.le_of_ble_eq_true rfl) (fun M3 => ?_)
      refine zs_sub (lv' := [(0, .ref m)]) [0] rfl ?_
      exact h10 M3
    · refine zs_sub (lv' := [(0, .ref m)]) [0] rfl ?_
      exact h10 M
theorem kv_must : zs_mV RX10 yX10_must cX10_must 2 none 1 := ⟨q1812, qs73, q152, q1813, by decide, by decide +kernel⟩
def gm_must (M : zm_S) (a1 : Int32) : Option (zm_S) :=
(gm_is M a1).bind fun b1 =>
if b1 = true then ((gm_goesOn M).bind fun M3 =>
some M3)
else ((gm_fail M 1).bind fun M2 =>
some M2)
set_option maxHeartbeats 4000000 in
theorem km_must (D : zs_D) (h0 : zs_AH) (m : Nat) (M : zm_S) (a1 : Int32) : zs_Con D (zm_R h0 m) zm_bd zs_eV yX10_must cX10_must 2 none 2 [.ref m, .int a1] M ((gm_must M a1).map fun x => ((), x)) := by
  unfold gm_must
  refine zs_conV (own := RX10) (nm := "must") pl_X10 rfl rfl (Nat.le_of_ble_eq_true rfl) ?_
  refine zs_lv (lv' := [(0, .ref m), (1, .int a1)]) rfl ?_
  refine zs_aload_n (pc := 0) 0 dX10_must_0 rfl rfl ?_
  refine zs_iload_n (pc := 1) 1 dX10_must_1 rfl rfl ?_
  refine zs_callVrB (pc := 2) [.int a1] [] (km_is D h0 m M a1) kv_is q1786 zc_X10 zm_recv dX10_must_2 rfl rfl (Nat.le_of_ble_eq_true rfl) (Nat.le_of_ble_eq_true rfl) (fun b1 => ?_)
  refine zs_if_f (pc := 5) (tgt := 15) dX10_must_5 (by decide) ?_ ?_
  · refine zs_aload_n (pc := 8) 0 dX10_must_8 rfl rfl ?_
    refine zs_callVv (pc := 9) [] [] (km_goesOn D h0 m M) kv_goesOn q1802 zc_X10 zm_recv dX10_must_9 rfl rfl (Nat.le_of_ble_eq_true rfl) (Nat.le_of_ble_eq_true rfl) (fun M3 => ?_)
    refine zs_goto (pc := 12) (tgt := 20) dX10_must_12 (by decide) ?_
    exact zs_vret (pc := 20) dX10_must_20 rfl rfl
  · refine zs_aload_n (pc := 15) 0 dX10_must_15 rfl rfl ?_
    refine zs_iconst (pc := 16) (v := 1) dX10_must_16 rfl ?_
    refine zs_callVv (pc := 17) [.int 1] [] (km_fail D h0 m M 1) kv_fail q1798 zc_X10 zm_recv dX10_must_17 rfl rfl (Nat.le_of_ble_eq_true rfl) (Nat.le_of_ble_eq_true rfl) (fun M2 => ?_)
    exact zs_vret (pc := 20) dX10_must_20 rfl rfl
theorem kv_wrong : zs_mV RX10 yX10_wrong cX10_wrong 4 none 2 := ⟨q1816, qs74, q152, q1817, by decide, by decide +kernel⟩
def gm_wrong (M : zm_S) (a1 : Int32) (a2 : Int32) : Option (zm_S) :=
(zs_ald 403 (M.2.1 6) a2).bind fun x1 =>
if 0 < (M.1 13) then (some M)
else (zs_let (fun (p2 : Unit) => (some (zm_sF M 15 a1)).bind fun M3 =>
(some (zm_sF M3 16 x1)).bind fun M4 =>
some M4) fun J46 =>
if (M.1 15) = 0 then (J46 ())
else (if (M.1 16) < x1 then (some M)
else (if x1 = (M.1 16) then (if a1 < (M.1 15) then (J46 ())
else (some M))
else (J46 ()))))
set_option maxHeartbeats 4000000 in
theorem km_wrong (D : zs_D) (h0 : zs_AH) (m : Nat) (M : zm_S) (a1 : Int32) (a2 : Int32) : zs_Con D (zm_R h0 m) zm_bd zs_eV yX10_wrong cX10_wrong 4 none 0 [.ref m, .int a1, .int a2] M ((gm_wrong M a1 a2).map fun x => ((), x)) := by
  unfold gm_wrong
  refine zs_conV (own := RX10) (nm := "wrong") pl_X10 rfl rfl (Nat.le_of_ble_eq_true rfl) ?_
  refine zs_lv (lv' := [(0, .ref m), (1, .int a1), (2, .int a2)]) rfl ?_
  refine zs_aload_n (pc := 0) 0 dX10_wrong_0 rfl rfl ?_
  refine zm_geta (pc := 1) 6 3 (by decide) rfl q1539 dX10_wrong_1 ?_
  refine zs_iload_n (pc := 4) 2 dX10_wrong_4 rfl rfl ?_
  refine zm_iald (pc := 5) 6 3 zm_p6 dX10_wrong_5 (fun x1 => ?_)
  refine zs_istore_n (pc := 6) (lv' := [(0, .ref m), (1, .int a1), (2, .int a2), (3, .int x1)]) [1, 2, 3, 0] dX10_wrong_6 rfl (by decide) rfl ?_
  refine zs_aload_n (pc := 7) 0 dX10_wrong_7 rfl rfl ?_
  refine zm_geti (pc := 8) 13 (by decide) rfl q1546 dX10_wrong_8 ?_
  refine zs_if_gt (pc := 11) (tgt := 45) dX10_wrong_11 (by decide) ?_ ?_
  · exact zs_vret (pc := 45) dX10_wrong_45 rfl rfl
  · refine zs_aload_n (pc := 14) 0 dX10_wrong_14 rfl rfl ?_
    refine zm_geti (pc := 15) 15 (by decide) rfl q1548 dX10_wrong_15 ?_
    refine zs_letJ (pc := 18) (fun (p2 : Unit) => M) 46 (fun (p2 : Unit) => [(0, .ref m), (1, .int a1), (3, .int x1)]) (fun (p2 : Unit) => []) (fun p2 => ?_) (fun J46 h46 => ?_)
    · refine zs_aload_n (pc := 46) 0 dX10_wrong_46 rfl rfl ?_
      refine zs_iload_n (pc := 47) 1 dX10_wrong_47 rfl rfl ?_
      refine zm_puti (pc := 48) 15 (by decide) rfl q1548 rfl rfl rfl dX10_wrong_48 ?_
      refine zs_nmM (fun M3 => ?_)
      refine zs_aload_n (pc := 51) 0 dX10_wrong_51 rfl rfl ?_
      refine zs_iload_n (pc := 52) 2 dX10_wrong_52 rfl rfl ?_
      refine zm_puti (pc := 53) 16 (by decide) rfl q1549 rfl rfl rfl dX10_wrong_53 ?_
      refine zs_nmM (fun M4 => ?_)
      exact zs_vret (pc := 56) dX10_wrong_56 rfl rfl
    · refine zs_if_eq (pc := 18) (tgt := 46) dX10_wrong_18 (by decide) ?_ ?_
      · refine zs_sub (lv' := [(0, .ref m), (1, .int a1), (3, .int x1)]) [0, 1, 3] rfl ?_
        exact h46 ()
      · refine zs_iload_n (pc := 21) 3 dX10_wrong_21 rfl rfl ?_
        refine zs_aload_n (pc := 22) 0 dX10_wrong_22 rfl rfl ?_
        refine zm_geti (pc := 23) 16 (by decide) rfl q1549 dX10_wrong_23 ?_
        refine zs_icmp_gt (pc := 26) (tgt := 45) dX10_wrong_26 (by decide) ?_ ?_
        · exact zs_vret (pc := 45) dX10_wrong_45 rfl rfl
        · refine zs_iload_n (pc := 29) 3 dX10_wrong_29 rfl rfl ?_
          refine zs_aload_n (pc := 30) 0 dX10_wrong_30 rfl rfl ?_
          refine zm_geti (pc := 31) 16 (by decide) rfl q1549 dX10_wrong_31 ?_
          refine zs_icmp_ne (pc := 34) (tgt := 46) dX10_wrong_34 (by decide) ?_ ?_
          · refine zs_iload_n (pc := 37) 1 dX10_wrong_37 rfl rfl ?_
            refine zs_aload_n (pc := 38) 0 dX10_wrong_38 rfl rfl ?_
            refine zm_geti (pc := 39) 15 (by decide) rfl q1548 dX10_wrong_39 ?_
            refine zs_icmp_lt (pc := 42) (tgt := 46) dX10_wrong_42 (by decide) ?_ ?_
            · refine zs_sub (lv' := [(0, .ref m), (1, .int a1), (3, .int x1)]) [0, 1, 3] rfl ?_
              exact h46 ()
            · exact zs_vret (pc := 45) dX10_wrong_45 rfl rfl
          · refine zs_sub (lv' := [(0, .ref m), (1, .int a1), (3, .int x1)]) [0, 1, 3] rfl ?_
            exact h46 ()
theorem kv_bounded : zs_mV RX10 yX10_bounded cX10_bounded 4 (some .int) 2 := ⟨q1820, qs75, q152, q1821, by decide, by decide +kernel⟩
def gm_bounded (M : zm_S) (a1 : Int32) (a2 : Int32) : Option (Int32 × zm_S) :=
zs_let (fun (p1 : Unit) => (gm_fail M 1).bind fun M2 =>
some (a1, M2)) fun J15 =>
if 0 < (M.1 13) then (J15 ())
else ((gm_is M 2).bind fun b3 =>
if b3 = true then ((zs_ald 403 (M.2.1 7) (M.1 11)).bind fun x4 =>
(zs_let (fun (p7 : Unit) => (gm_wrong M 5 (M.1 11)).bind fun M8 =>
some M8) fun J42 =>
if x4 < a1 then (J42 ())
else (if a2 < x4 then (J42 ())
else (some M))).bind fun (p5 : zm_S) =>
(gm_goesOn p5).bind fun M6 =>
some (x4, M6))
else (J15 ()))
set_option maxHeartbeats 4000000 in
theorem km_bounded (D : zs_D) (h0 : zs_AH) (m : Nat) (M : zm_S) (a1 : Int32) (a2 : Int32) : zs_Con D (zm_R h0 m) zm_bd zs_eI yX10_bounded cX10_bounded 4 (some .int) 2 [.ref m, .int a1, .int a2] M (gm_bounded M a1 a2) := by
  unfold gm_bounded
  refine zs_con (own := RX10) (nm := "bounded") pl_X10 rfl rfl (Nat.le_of_ble_eq_true rfl) ?_
  refine zs_lv (lv' := [(0, .ref m), (1, .int a1), (2, .int a2)]) rfl ?_
  refine zs_aload_n (pc := 0) 0 dX10_bounded_0 rfl rfl ?_
  refine zm_geti (pc := 1) 13 (by decide) rfl q1546 dX10_bounded_1 ?_
  refine zs_letJ (pc := 4) (fun (p1 : Unit) => M) 15 (fun (p1 : Unit) => [(0, .ref m), (1, .int a1)]) (fun (p1 : Unit) => []) (fun p1 => ?_) (fun J15 h15 => ?_)
  · refine zs_aload_n (pc := 15) 0 dX10_bounded_15 rfl rfl ?_
    refine zs_iconst (pc := 16) (v := 1) dX10_bounded_16 rfl ?_
    refine zs_callVv (pc := 17) [.int 1] [] (km_fail D h0 m M 1) kv_fail q1798 zc_X10 zm_recv dX10_bounded_17 rfl rfl (Nat.le_of_ble_eq_true rfl) (Nat.le_of_ble_eq_true rfl) (fun M2 => ?_)
    refine zs_iload_n (pc := 20) 1 dX10_bounded_20 rfl rfl ?_
    exact zs_iret (pc := 21) dX10_bounded_21 rfl rfl rfl
  · refine zs_if_gt (pc := 4) (tgt := 15) dX10_bounded_4 (by decide) ?_ ?_
    · refine zs_sub (lv' := [(0, .ref m), (1, .int a1)]) [0, 1] rfl ?_
      exact h15 ()
    · refine zs_aload_n (pc := 7) 0 dX10_bounded_7 rfl rfl ?_
      refine zs_iconst (pc := 8) (v := 2) dX10_bounded_8 rfl ?_
      refine zs_callVrB (pc := 9) [.int 2] [] (km_is D h0 m M 2) kv_is q1786 zc_X10 zm_recv dX10_bounded_9 rfl rfl (Nat.le_of_ble_eq_true rfl) (Nat.le_of_ble_eq_true rfl) (fun b3 => ?_)
      refine zs_if_t (pc := 12) (tgt := 22) dX10_bounded_12 (by decide) ?_ ?_
      · refine zs_aload_n (pc := 22) 0 dX10_bounded_22 rfl rfl ?_
        refine zm_geta (pc := 23) 7 4 (by decide) rfl q1540 dX10_bounded_23 ?_
        refine zs_aload_n (pc := 26) 0 dX10_bounded_26 rfl rfl ?_
        refine zm_geti (pc := 27) 11 (by decide) rfl q1544 dX10_bounded_27 ?_
        refine zm_iald (pc := 30) 7 4 zm_p7 dX10_bounded_30 (fun x4 => ?_)
        refine zs_istore_n (pc := 31) (lv' := [(0, .ref m), (1, .int a1), (2, .int a2), (3, .int x4)]) [1, 2, 3, 0] dX10_bounded_31 rfl (by decide) rfl ?_
        refine zs_iload_n (pc := 32) 3 dX10_bounded_32 rfl rfl ?_
        refine zs_iload_n (pc := 33) 1 dX10_bounded_33 rfl rfl ?_
        refine zs_join (pc := 34) (fun (p5 : zm_S) => p5) 51 (fun (p5 : zm_S) => [(0, .ref m), (3, .int x4)]) (fun (p5 : zm_S) => []) (fun p5 => ?_) (fun h51 => ?_)
        · refine zs_aload_n (pc := 51) 0 dX10_bounded_51 rfl rfl ?_
          refine zs_callVv (pc := 52) [] [] (km_goesOn D h0 m p5) kv_goesOn q1802 zc_X10 zm_recv dX10_bounded_52 rfl rfl (Nat.le_of_ble_eq_true rfl) (Nat.le_of_ble_eq_true rfl) (fun M6 => ?_)
          refine zs_iload_n (pc := 55) 1 dX10_bounded_55 rfl rfl ?_
          exact zs_iret (pc := 56) dX10_bounded_56 rfl rfl rfl
        · refine zs_letJ (pc := 34) (fun (p7 : Unit) => M) 42 (fun (p7 : Unit) => [(0, .ref m), (3, .int x4)]) (fun (p7 : Unit) => []) (fun p7 => ?_) (fun J42 h42 => ?_)
          · refine zs_aload_n (pc := 42) 0 dX10_bounded_42 rfl rfl ?_
            refine zs_iconst (pc := 43) (v := 5) dX10_bounded_43 rfl ?_
            refine zs_aload_n (pc := 44) 0 dX10_bounded_44 rfl rfl ?_
            refine zm_geti (pc := 45) 11 (by decide) rfl q1544 dX10_bounded_45 ?_
            refine zs_callVv (pc := 48) [.int 5, .int (M.1 11)] [] (km_wrong D h0 m M 5 (M.1 11)) kv_wrong q1814 zc_X10 zm_recv dX10_bounded_48 rfl rfl (Nat.le_of_ble_eq_true rfl) (Nat.le_of_ble_eq_true rfl) (fun M8 => ?_)
            exact h51 M8
          · refine zs_icmp_lt (pc := 34) (tgt := 42) dX10_bounded_34 (by decide) ?_ ?_
            · refine zs_sub (lv' := [(0, .ref m), (3, .int x4)]) [0, 3] rfl ?_
              exact h42 ()
            · refine zs_iload_n (pc := 37) 3 dX10_bounded_37 rfl rfl ?_
              refine zs_iload_n (pc := 38) 2 dX10_bounded_38 rfl rfl ?_
              refine zs_icmp_le (pc := 39) (tgt := 51) dX10_bounded_39 (by decide) ?_ ?_
              · refine zs_sub (lv' := [(0, .ref m), (3, .int x4)]) [0, 3] rfl ?_
                exact h42 ()
              · refine zs_sub (lv' := [(0, .ref m), (3, .int x4)]) [0, 3] rfl ?_
                exact h51 M
      · refine zs_sub (lv' := [(0, .ref m), (1, .int a1)]) [0, 1] rfl ?_
        exact h15 ()
theorem kv_tellHouse : zs_mV RX10 yX10_tellHouse cX10_tellHouse 4 none 0 := ⟨q1808, qs72, q152, q1809, by decide, by decide +kernel⟩
def gm_tellHouse_L30 (x3 : Int32) : (Int32 × zm_S) → Option ((Int32 × zm_S) ⊕ (zm_S)) := fun t30 =>
if t30.1 < (t30.2.1 20) then (if (t30.2.1 13) = 0 then ((zs_ald 6 (t30.2.2.2 21) t30.1).bind fun l5 =>
(zs_ald 403 (t30.2.2.2 8) x3).bind fun l6 =>
if l5 = l6 then ((gm_wrong t30.2 3 x3).bind fun M7 =>
some (Sum.inl ((t30.1 + 1), M7)))
else (some (Sum.inl ((t30.1 + 1), t30.2))))
else (some (Sum.inr t30.2)))
else (some (Sum.inr t30.2))
def gm_tellHouse (M : zm_S) : Option (zm_S) :=
(zs_ald 2 (M.2.1 22) (M.1 19)).bind fun x1 =>
(some ((6 * (M.1 19)) + x1)).bind fun x2 =>
(some (M.1 11)).bind fun x3 =>
(gm_must M 1).bind fun M4 =>
(zs_loop 5000 (gm_tellHouse_L30 x3) (0, M4)).bind fun (r8 : zm_S) =>
(gm_bounded r8 0 20).bind fun p9 =>
(zs_ast 12 x2 (zm_sA p9.2 23 x2 p9.1)).bind fun M10 =>
(gm_bounded M10 1 99).bind fun p11 =>
(zs_ast 12 x2 (zm_sA p11.2 24 x2 p11.1)).bind fun M12 =>
(gm_must M12 4).bind fun M13 =>
if 0 < (M13.1 13) then (some M13)
else ((zs_ald 403 (M13.2.2 8) x3).bind fun l14 =>
(zs_ast 6 (M13.1 20) (zm_sL M13 21 (M13.1 20) l14)).bind fun M15 =>
(some (zm_sF M15 20 ((M15.1 20) + 1))).bind fun M16 =>
(zs_ald 2 (M16.2.1 22) (M16.1 19)).bind fun x17 =>
(zs_ast 2 (M16.1 19) (zm_sA M16 22 (M16.1 19) (x17 + 1))).bind fun M18 =>
some M18)
set_option maxHeartbeats 4000000 in
theorem km_tellHouse (D : zs_D) (h0 : zs_AH) (m : Nat) (M : zm_S) : zs_Con D (zm_R h0 m) zm_bd zs_eV yX10_tellHouse cX10_tellHouse 4 none 3 [.ref m] M ((gm_tellHouse M).map fun x => ((), x)) := by
  unfold gm_tellHouse
  refine zs_conV (own := RX10) (nm := "tellHouse") pl_X10 rfl rfl (Nat.le_of_ble_eq_true rfl) ?_
  refine zs_lv (lv' := [(0, .ref m)]) rfl ?_
  refine zs_bipush (pc := 0) (v := 6) dX10_tellHouse_0 (by decide) ?_
  refine zs_aload_n (pc := 2) 0 dX10_tellHouse_2 rfl rfl ?_
  refine zm_geti (pc := 3) 19 (by decide) rfl q1552 dX10_tellHouse_3 ?_
  refine zs_imul (pc := 6) dX10_tellHouse_6 ?_
  refine zs_aload_n (pc := 7) 0 dX10_tellHouse_7 rfl rfl ?_
  refine zm_geta (pc := 8) 22 8 (by decide) rfl q1555 dX10_tellHouse_8 ?_
  refine zs_aload_n (pc := 11) 0 dX10_tellHouse_11 rfl rfl ?_
  refine zm_geti (pc := 12) 19 (by decide) rfl q1552 dX10_tellHouse_12 ?_
  refine zm_iald (pc := 15) 22 8 zm_p22 dX10_tellHouse_15 (fun x1 => ?_)
  refine zs_iadd (pc := 16) dX10_tellHouse_16 ?_
  refine zs_nm (fun x2 => ?_)
  refine zs_istore_n (pc := 17) (lv' := [(0, .ref m), (1, .int x2)]) [1, 0] dX10_tellHouse_17 rfl (by decide) rfl ?_
  refine zs_aload_n (pc := 18) 0 dX10_tellHouse_18 rfl rfl ?_
  refine zm_geti (pc := 19) 11 (by decide) rfl q1544 dX10_tellHouse_19 ?_
  refine zs_nm (fun x3 => ?_)
  refine zs_istore_n (pc := 22) (lv' := [(0, .ref m), (1, .int x2), (2, .int x3)]) [1, 2, 0] dX10_tellHouse_22 rfl (by decide) rfl ?_
  refine zs_aload_n (pc := 23) 0 dX10_tellHouse_23 rfl rfl ?_
  refine zs_iconst (pc := 24) (v := 1) dX10_tellHouse_24 rfl ?_
  refine zs_callVv (pc := 25) [.int 1] [] (km_must D h0 m M 1) kv_must q1810 zc_X10 zm_recv dX10_tellHouse_25 rfl rfl (Nat.le_of_ble_eq_true rfl) (Nat.le_of_ble_eq_true rfl) (fun M4 => ?_)
  refine zs_iconst (pc := 28) (v := 0) dX10_tellHouse_28 rfl ?_
  refine zs_istore_n (pc := 29) (lv' := [(0, .ref m), (1, .int x2), (2, .int x3), (3, .int 0)]) [1, 2, 3, 0] dX10_tellHouse_29 rfl (by decide) rfl ?_
  refine zs_whileJ (pc := 30) (fun (t30 : Int32 × zm_S) => t30.2) (fun (t30 : Int32 × zm_S) => [(0, .ref m), (1, .int x2), (2, .int x3), (3, .int t30.1)]) 5000 (0, M4) (fun (r8 : zm_S) => r8) 73 (fun (r8 : zm_S) => [(0, .ref m), (1, .int x2), (2, .int x3)]) [] (fun r8 => ?_) (fun X30 hL30 hE30 t30 => ?_)
  · refine zs_aload_n (pc := 73) 0 dX10_tellHouse_73 rfl rfl ?_
    refine zm_geta (pc := 74) 23 9 (by decide) rfl q1556 dX10_tellHouse_74 ?_
    refine zs_iload_n (pc := 77) 1 dX10_tellHouse_77 rfl rfl ?_
    refine zs_aload_n (pc := 78) 0 dX10_tellHouse_78 rfl rfl ?_
    refine zs_iconst (pc := 79) (v := 0) dX10_tellHouse_79 rfl ?_
    refine zs_bipush (pc := 80) (v := 20) dX10_tellHouse_80 (by decide) ?_
    refine zs_callVwI (pc := 82) [.int 0, .int 20] [.int x2, .ref (m + (9 + 1))] (km_bounded D h0 m r8 0 20) kv_bounded q1818 zc_X10 zm_recv dX10_tellHouse_82 rfl rfl (Nat.le_of_ble_eq_true rfl) (Nat.le_of_ble_eq_true rfl) (fun p9 => ?_)
    refine zm_iast (pc := 85) 23 9 zm_p23 dX10_tellHouse_85 (fun M10 => ?_)
    refine zs_aload_n (pc := 86) 0 dX10_tellHouse_86 rfl rfl ?_
    refine zm_geta (pc := 87) 24 10 (by decide) rfl q1557 dX10_tellHouse_87 ?_
    refine zs_iload_n (pc := 90) 1 dX10_tellHouse_90 rfl rfl ?_
    refine zs_aload_n (pc := 91) 0 dX10_tellHouse_91 rfl rfl ?_
    refine zs_iconst (pc := 92) (v := 1) dX10_tellHouse_92 rfl ?_
    refine zs_bipush (pc := 93) (v := 99) dX10_tellHouse_93 (by decide) ?_
    refine zs_callVwI (pc := 95) [.int 1, .int 99] [.int x2, .ref (m + (10 + 1))] (km_bounded D h0 m M10 1 99) kv_bounded q1818 zc_X10 zm_recv dX10_tellHouse_95 rfl rfl (Nat.le_of_ble_eq_true rfl) (Nat.le_of_ble_eq_true rfl) (fun p11 => ?_)
    refine zm_iast (pc := 98) 24 10 zm_p24 dX10_tellHouse_98 (fun M12 => ?_)
    refine zs_aload_n (pc := 99) 0 dX10_tellHouse_99 rfl rfl ?_
    refine zs_iconst (pc := 100) (v := 4) dX10_tellHouse_100 rfl ?_
    refine zs_callVv (pc := 101) [.int 4] [] (km_must D h0 m M12 4) kv_must q1810 zc_X10 zm_recv dX10_tellHouse_101 rfl rfl (Nat.le_of_ble_eq_true rfl) (Nat.le_of_ble_eq_true rfl) (fun M13 => ?_)
    refine zs_aload_n (pc := 104) 0 dX10_tellHouse_104 rfl rfl ?_
    refine zm_geti (pc := 105) 13 (by decide) rfl q1546 dX10_tellHouse_105 ?_
    refine zs_if_le (pc := 108) (tgt := 112) dX10_tellHouse_108 (by decide) ?_ ?_
    · exact zs_vret (pc := 111) dX10_tellHouse_111 rfl rfl
    · refine zs_aload_n (pc := 112) 0 dX10_tellHouse_112 rfl rfl ?_
      refine zm_geta (pc := 113) 21 7 (by decide) rfl q1554 dX10_tellHouse_113 ?_
      refine zs_aload_n (pc := 116) 0 dX10_tellHouse_116 rfl rfl ?_
      refine zm_geti (pc := 117) 20 (by decide) rfl q1553 dX10_tellHouse_117 ?_
      refine zs_aload_n (pc := 120) 0 dX10_tellHouse_120 rfl rfl ?_
      refine zm_geta (pc := 121) 8 5 (by decide) rfl q1541 dX10_tellHouse_121 ?_
      refine zs_iload_n (pc := 124) 2 dX10_tellHouse_124 rfl rfl ?_
      refine zm_lald (pc := 125) 8 5 zm_p8 dX10_tellHouse_125 (fun l14 => ?_)
      refine zm_last (pc := 126) 21 7 zm_p21 dX10_tellHouse_126 (fun M15 => ?_)
      refine zs_aload_n (pc := 127) 0 dX10_tellHouse_127 rfl rfl ?_
      refine zs_dup (pc := 128) dX10_tellHouse_128 rfl ?_
      refine zm_geti (pc := 129) 20 (by decide) rfl q1553 dX10_tellHouse_129 ?_
      refine zs_iconst (pc := 132) (v := 1) dX10_tellHouse_132 rfl ?_
      refine zs_iadd (pc := 133) dX10_tellHouse_133 ?_
      refine zm_puti (pc := 134) 20 (by decide) rfl q1553 rfl rfl rfl dX10_tellHouse_134 ?_
      refine zs_nmM (fun M16 => ?_)
      refine zs_aload_n (pc := 137) 0 dX10_tellHouse_137 rfl rfl ?_
      refine zm_geta (pc := 138) 22 8 (by decide) rfl q1555 dX10_tellHouse_138 ?_
      refine zs_aload_n (pc := 141) 0 dX10_tellHouse_141 rfl rfl ?_
      refine zm_geti (pc := 142) 19 (by decide) rfl q1552 dX10_tellHouse_142 ?_
      refine zs_dup2 (pc := 145) dX10_tellHouse_145 rfl rfl ?_
      refine zm_iald (pc := 146) 22 8 zm_p22 dX10_tellHouse_146 (fun x17 => ?_)
      refine zs_iconst (pc := 147) (v := 1) dX10_tellHouse_147 rfl ?_
      refine zs_iadd (pc := 148) dX10_tellHouse_148 ?_
      refine zm_iast (pc := 149) 22 8 zm_p22 dX10_tellHouse_149 (fun M18 => ?_)
      exact zs_vret (pc := 150) dX10_tellHouse_150 rfl rfl
  · unfold gm_tellHouse_L30
    refine zs_iload_n (pc := 30) 3 dX10_tellHouse_30 rfl rfl ?_
    refine zs_aload_n (pc := 31) 0 dX10_tellHouse_31 rfl rfl ?_
    refine zm_geti (pc := 32) 20 (by decide) rfl q1553 dX10_tellHouse_32 ?_
    refine zs_icmp_ge (pc := 35) (tgt := 73) dX10_tellHouse_35 (by decide) ?_ ?_
    · refine zs_aload_n (pc := 38) 0 dX10_tellHouse_38 rfl rfl ?_
      refine zm_geti (pc := 39) 13 (by decide) rfl q1546 dX10_tellHouse_39 ?_
      refine zs_if_ne (pc := 42) (tgt := 73) dX10_tellHouse_42 (by decide) ?_ ?_
      · refine zs_aload_n (pc := 45) 0 dX10_tellHouse_45 rfl rfl ?_
        refine zm_geta (pc := 46) 21 7 (by decide) rfl q1554 dX10_tellHouse_46 ?_
        refine zs_iload_n (pc := 49) 3 dX10_tellHouse_49 rfl rfl ?_
        refine zm_lald (pc := 50) 21 7 zm_p21 dX10_tellHouse_50 (fun l5 => ?_)
        refine zs_aload_n (pc := 51) 0 dX10_tellHouse_51 rfl rfl ?_
        refine zm_geta (pc := 52) 8 5 (by decide) rfl q1541 dX10_tellHouse_52 ?_
        refine zs_iload_n (pc := 55) 2 dX10_tellHouse_55 rfl rfl ?_
        refine zm_lald (pc := 56) 8 5 zm_p8 dX10_tellHouse_56 (fun l6 => ?_)
        refine zs_lcmp_ne (pc := 57) (tgt := 67) dX10_tellHouse_57 dX10_tellHouse_58 (by decide) ?_ ?_
        · refine zs_aload_n (pc := 61) 0 dX10_tellHouse_61 rfl rfl ?_
          refine zs_iconst (pc := 62) (v := 3) dX10_tellHouse_62 rfl ?_
          refine zs_iload_n (pc := 63) 2 dX10_tellHouse_63 rfl rfl ?_
          refine zs_callVv (pc := 64) [.int 3, .int x3] [] (km_wrong D h0 m t30.2 3 x3) kv_wrong q1814 zc_X10 zm_recv dX10_tellHouse_64 rfl rfl (Nat.le_of_ble_eq_true rfl) (Nat.le_of_ble_eq_true rfl) (fun M7 => ?_)
          refine zs_iinc (pc := 67) (lv' := [(0, .ref m), (1, .int x2), (2, .int x3), (3, .int (t30.1 + 1))]) 3 [1, 2, 3, 0] dX10_tellHouse_67 rfl rfl (by decide) rfl ?_
          refine zs_goto (pc := 70) (tgt := 30) dX10_tellHouse_70 (by decide) ?_
          exact hL30 ((t30.1 + 1), M7)
        · refine zs_iinc (pc := 67) (lv' := [(0, .ref m), (1, .int x2), (2, .int x3), (3, .int (t30.1 + 1))]) 3 [1, 2, 3, 0] dX10_tellHouse_67 rfl rfl (by decide) rfl ?_
          refine zs_goto (pc := 70) (tgt := 30) dX10_tellHouse_70 (by decide) ?_
          exact hL30 ((t30.1 + 1), t30.2)
      · refine zs_sub (lv' := [(0, .ref m), (1, .int x2), (2, .int x3)]) [0, 1, 2] rfl ?_
        exact hE30 t30.2
    · refine zs_sub (lv' := [(0, .ref m), (1, .int x2), (2, .int x3)]) [0, 1, 2] rfl ?_
      exact hE30 t30.2
theorem kv_known : zs_mV RX10 yX10_known cX10_known 3 (some .int) 0 := ⟨q1828, qs77, q152, q1829, by decide, by decide +kernel⟩
def gm_known_L21 (M2 : zm_S) (x1 : Int32) : (Int32) → Option ((Int32) ⊕ ((Unit) ⊕ (Int32 × zm_S))) := fun t21 =>
if t21 < (M2.1 20) then ((zs_ald 6 (M2.2.2 21) t21).bind fun l3 =>
(zs_ald 403 (M2.2.2 8) x1).bind fun l4 =>
if l3 = l4 then (some (Sum.inr (Sum.inr (t21, M2))))
else (some (Sum.inl (t21 + 1))))
else (some (Sum.inr (Sum.inl ())))
def gm_known (M : zm_S) : Option (Int32 × zm_S) :=
(some (M.1 11)).bind fun x1 =>
(gm_must M 1).bind fun M2 =>
if 0 < (M2.1 13) then (some ((-1), M2))
else ((zs_loop 5000 (gm_known_L21 M2 x1) 0).bind (Sum.elim (fun (r5 : Unit) =>
(gm_wrong M2 4 x1).bind fun M6 =>
some ((-1), M6))
 (fun z => some z)))
set_option maxHeartbeats 4000000 in
theorem km_known (D : zs_D) (h0 : zs_AH) (m : Nat) (M : zm_S) : zs_Con D (zm_R h0 m) zm_bd zs_eI yX10_known cX10_known 3 (some .int) 3 [.ref m] M (gm_known M) := by
  unfold gm_known
  refine zs_con (own := RX10) (nm := "known") pl_X10 rfl rfl (Nat.le_of_ble_eq_true rfl) ?_
  refine zs_lv (lv' := [(0, .ref m)]) rfl ?_
  refine zs_aload_n (pc := 0) 0 dX10_known_0 rfl rfl ?_
  refine zm_geti (pc := 1) 11 (by decide) rfl q1544 dX10_known_1 ?_
  refine zs_nm (fun x1 => ?_)
  refine zs_istore_n (pc := 4) (lv' := [(0, .ref m), (1, .int x1)]) [1, 0] dX10_known_4 rfl (by decide) rfl ?_
  refine zs_aload_n (pc := 5) 0 dX10_known_5 rfl rfl ?_
  refine zs_iconst (pc := 6) (v := 1) dX10_known_6 rfl ?_
  refine zs_callVv (pc := 7) [.int 1] [] (km_must D h0 m M 1) kv_must q1810 zc_X10 zm_recv dX10_known_7 rfl rfl (Nat.le_of_ble_eq_true rfl) (Nat.le_of_ble_eq_true rfl) (fun M2 => ?_)
  refine zs_aload_n (pc := 10) 0 dX10_known_10 rfl rfl ?_
  refine zm_geti (pc := 11) 13 (by decide) rfl q1546 dX10_known_11 ?_
  refine zs_if_le (pc := 14) (tgt := 19) dX10_known_14 (by decide) ?_ ?_
  · refine zs_iconst (pc := 17) (v := (-1)) dX10_known_17 rfl ?_
    exact zs_iret (pc := 18) dX10_known_18 rfl rfl rfl
  · refine zs_iconst (pc := 19) (v := 0) dX10_known_19 rfl ?_
    refine zs_istore_n (pc := 20) (lv' := [(0, .ref m), (1, .int x1), (2, .int 0)]) [1, 2, 0] dX10_known_20 rfl (by decide) rfl ?_
    refine zs_whileR (pc := 21) (fun (t21 : Int32) => M2) (fun (t21 : Int32) => [(0, .ref m), (1, .int x1), (2, .int t21)]) 5000 0 (fun (r5 : Unit) => M2) 53 (fun (r5 : Unit) => [(0, .ref m), (1, .int x1)]) [] (fun r5 => ?_) (fun X21 hL21 hE21 hR21 t21 => ?_)
    · refine zs_aload_n (pc := 53) 0 dX10_known_53 rfl rfl ?_
      refine zs_iconst (pc := 54) (v := 4) dX10_known_54 rfl ?_
      refine zs_iload_n (pc := 55) 1 dX10_known_55 rfl rfl ?_
      refine zs_callVv (pc := 56) [.int 4, .int x1] [] (km_wrong D h0 m M2 4 x1) kv_wrong q1814 zc_X10 zm_recv dX10_known_56 rfl rfl (Nat.le_of_ble_eq_true rfl) (Nat.le_of_ble_eq_true rfl) (fun M6 => ?_)
      refine zs_iconst (pc := 59) (v := (-1)) dX10_known_59 rfl ?_
      exact zs_iret (pc := 60) dX10_known_60 rfl rfl rfl
    · unfold gm_known_L21
      refine zs_iload_n (pc := 21) 2 dX10_known_21 rfl rfl ?_
      refine zs_aload_n (pc := 22) 0 dX10_known_22 rfl rfl ?_
      refine zm_geti (pc := 23) 20 (by decide) rfl q1553 dX10_known_23 ?_
      refine zs_icmp_ge (pc := 26) (tgt := 53) dX10_known_26 (by decide) ?_ ?_
      · refine zs_aload_n (pc := 29) 0 dX10_known_29 rfl rfl ?_
        refine zm_geta (pc := 30) 21 7 (by decide) rfl q1554 dX10_known_30 ?_
        refine zs_iload_n (pc := 33) 2 dX10_known_33 rfl rfl ?_
        refine zm_lald (pc := 34) 21 7 zm_p21 dX10_known_34 (fun l3 => ?_)
        refine zs_aload_n (pc := 35) 0 dX10_known_35 rfl rfl ?_
        refine zm_geta (pc := 36) 8 5 (by decide) rfl q1541 dX10_known_36 ?_
        refine zs_iload_n (pc := 39) 1 dX10_known_39 rfl rfl ?_
        refine zm_lald (pc := 40) 8 5 zm_p8 dX10_known_40 (fun l4 => ?_)
        refine zs_lcmp_ne (pc := 41) (tgt := 47) dX10_known_41 dX10_known_42 (by decide) ?_ ?_
        · refine zs_iload_n (pc := 45) 2 dX10_known_45 rfl rfl ?_
          exact zs_iret (pc := 46) dX10_known_46 ((hR21 _).trans rfl) rfl rfl
        · refine zs_iinc (pc := 47) (lv' := [(0, .ref m), (1, .int x1), (2, .int (t21 + 1))]) 2 [1, 2, 0] dX10_known_47 rfl rfl (by decide) rfl ?_
          refine zs_goto (pc := 50) (tgt := 21) dX10_known_50 (by decide) ?_
          exact hL21 (t21 + 1)
      · refine zs_sub (lv' := [(0, .ref m), (1, .int x1)]) [0, 1] rfl ?_
        exact hE21 ()
theorem kv_tellLikes : zs_mV RX10 yX10_tellLikes cX10_tellLikes 5 none 0 := ⟨q1824, qs76, q152, q1825, by decide, by decide +kernel⟩
def gm_tellLikes (M : zm_S) : Option (zm_S) :=
(gm_known M).bind fun p1 =>
(some (p1.2.1 11)).bind fun x2 =>
(gm_known p1.2).bind fun p3 =>
(if (p3.2.1 13) = 0 then (if p1.1 < 0 then (some p3.2)
else (if p1.1 = p3.1 then ((gm_wrong p3.2 3 x2).bind fun M13 =>
some M13)
else (some p3.2)))
else (some p3.2)).bind fun (p4 : zm_S) =>
(gm_bounded p4 0 9).bind fun p5 =>
(gm_must p5.2 4).bind fun M6 =>
if 0 < (M6.1 13) then (some M6)
else ((zs_ald 2 (M6.2.1 25) (M6.1 19)).bind fun x7 =>
(zs_ast 2 (M6.1 19) (zm_sA M6 25 (M6.1 19) (x7 + 1))).bind fun M8 =>
if p1.1 < 0 then (some M8)
else (if p3.1 < 0 then (some M8)
else ((some (((36 * (M8.1 19)) + (6 * p1.1)) + p3.1)).bind fun x9 =>
(zs_ast 72 x9 (zm_sA M8 26 x9 p5.1)).bind fun M10 =>
(some (((36 * (M10.1 19)) + (6 * p3.1)) + p1.1)).bind fun x11 =>
(zs_ast 72 x11 (zm_sA M10 26 x11 p5.1)).bind fun M12 =>
some M12)))
set_option maxHeartbeats 4000000 in
theorem km_tellLikes (D : zs_D) (h0 : zs_AH) (m : Nat) (M : zm_S) : zs_Con D (zm_R h0 m) zm_bd zs_eV yX10_tellLikes cX10_tellLikes 5 none 4 [.ref m] M ((gm_tellLikes M).map fun x => ((), x)) := by
  unfold gm_tellLikes
  refine zs_conV (own := RX10) (nm := "tellLikes") pl_X10 rfl rfl (Nat.le_of_ble_eq_true rfl) ?_
  refine zs_lv (lv' := [(0, .ref m)]) rfl ?_
  refine zs_aload_n (pc := 0) 0 dX10_tellLikes_0 rfl rfl ?_
  refine zs_callVwI (pc := 1) [] [] (km_known D h0 m M) kv_known q1826 zc_X10 zm_recv dX10_tellLikes_1 rfl rfl (Nat.le_of_ble_eq_true rfl) (Nat.le_of_ble_eq_true rfl) (fun p1 => ?_)
  refine zs_istore_n (pc := 4) (lv' := [(0, .ref m), (1, .int p1.1)]) [1, 0] dX10_tellLikes_4 rfl (by decide) rfl ?_
  refine zs_aload_n (pc := 5) 0 dX10_tellLikes_5 rfl rfl ?_
  refine zm_geti (pc := 6) 11 (by decide) rfl q1544 dX10_tellLikes_6 ?_
  refine zs_nm (fun x2 => ?_)
  refine zs_istore_n (pc := 9) (lv' := [(0, .ref m), (1, .int p1.1), (2, .int x2)]) [1, 2, 0] dX10_tellLikes_9 rfl (by decide) rfl ?_
  refine zs_aload_n (pc := 10) 0 dX10_tellLikes_10 rfl rfl ?_
  refine zs_callVwI (pc := 11) [] [] (km_known D h0 m p1.2) kv_known q1826 zc_X10 zm_recv dX10_tellLikes_11 rfl rfl (Nat.le_of_ble_eq_true rfl) (Nat.le_of_ble_eq_true rfl) (fun p3 => ?_)
  refine zs_istore_n (pc := 14) (lv' := [(0, .ref m), (1, .int p1.1), (2, .int x2), (3, .int p3.1)]) [1, 2, 3, 0] dX10_tellLikes_14 rfl (by decide) rfl ?_
  refine zs_aload_n (pc := 15) 0 dX10_tellLikes_15 rfl rfl ?_
  refine zm_geti (pc := 16) 13 (by decide) rfl q1546 dX10_tellLikes_16 ?_
  refine zs_join (pc := 19) (fun (p4 : zm_S) => p4) 37 (fun (p4 : zm_S) => [(0, .ref m), (1, .int p1.1), (3, .int p3.1)]) (fun (p4 : zm_S) => []) (fun p4 => ?_) (fun h37 => ?_)
  · refine zs_aload_n (pc := 37) 0 dX10_tellLikes_37 rfl rfl ?_
    refine zs_iconst (pc := 38) (v := 0) dX10_tellLikes_38 rfl ?_
    refine zs_bipush (pc := 39) (v := 9) dX10_tellLikes_39 (by decide) ?_
    refine zs_callVwI (pc := 41) [.int 0, .int 9] [] (km_bounded D h0 m p4 0 9) kv_bounded q1818 zc_X10 zm_recv dX10_tellLikes_41 rfl rfl (Nat.le_of_ble_eq_true rfl) (Nat.le_of_ble_eq_true rfl) (fun p5 => ?_)
    refine zs_istore (pc := 44) (lv' := [(0, .ref m), (1, .int p1.1), (3, .int p3.1), (4, .int p5.1)]) [1, 2, 3, 0] dX10_tellLikes_44 (by decide) rfl ?_
    refine zs_aload_n (pc := 46) 0 dX10_tellLikes_46 rfl rfl ?_
    refine zs_iconst (pc := 47) (v := 4) dX10_tellLikes_47 rfl ?_
    refine zs_callVv (pc := 48) [.int 4] [] (km_must D h0 m p5.2 4) kv_must q1810 zc_X10 zm_recv dX10_tellLikes_48 rfl rfl (Nat.le_of_ble_eq_true rfl) (Nat.le_of_ble_eq_true rfl) (fun M6 => ?_)
    refine zs_aload_n (pc := 51) 0 dX10_tellLikes_51 rfl rfl ?_
    refine zm_geti (pc := 52) 13 (by decide) rfl q1546 dX10_tellLikes_52 ?_
    refine zs_if_le (pc := 55) (tgt := 59) dX10_tellLikes_55 (by decide) ?_ ?_
    · exact zs_vret (pc := 58) dX10_tellLikes_58 rfl rfl
    · refine zs_aload_n (pc := 59) 0 dX10_tellLikes_59 rfl rfl ?_
      refine zm_geta (pc := 60) 25 11 (by decide) rfl q1558 dX10_tellLikes_60 ?_
      refine zs_aload_n (pc := 63) 0 dX10_tellLikes_63 rfl rfl ?_
      refine zm_geti (pc := 64) 19 (by decide) rfl q1552 dX10_tellLikes_64 ?_
      refine zs_dup2 (pc := 67) dX10_tellLikes_67 rfl rfl ?_
      refine zm_iald (pc := 68) 25 11 zm_p25 dX10_tellLikes_68 (fun x7 => ?_)
      refine zs_iconst (pc := 69) (v := 1) dX10_tellLikes_69 rfl ?_
      refine zs_iadd (pc := 70) dX10_tellLikes_70 ?_
      refine zm_iast (pc := 71) 25 11 zm_p25 dX10_tellLikes_71 (fun M8 => ?_)
      refine zs_iload_n (pc := 72) 1 dX10_tellLikes_72 rfl rfl ?_
      refine zs_if_lt (pc := 73) (tgt := 80) dX10_tellLikes_73 (by decide) ?_ ?_
      · exact zs_vret (pc := 80) dX10_tellLikes_80 rfl rfl
      · refine zs_iload_n (pc := 76) 2 dX10_tellLikes_76 rfl rfl ?_
        refine zs_if_ge (pc := 77) (tgt := 81) dX10_tellLikes_77 (by decide) ?_ ?_
        · exact zs_vret (pc := 80) dX10_tellLikes_80 rfl rfl
        · refine zs_aload_n (pc := 81) 0 dX10_tellLikes_81 rfl rfl ?_
          refine zm_geta (pc := 82) 26 12 (by decide) rfl q1559 dX10_tellLikes_82 ?_
          refine zs_bipush (pc := 85) (v := 36) dX10_tellLikes_85 (by decide) ?_
          refine zs_aload_n (pc := 87) 0 dX10_tellLikes_87 rfl rfl ?_
          refine zm_geti (pc := 88) 19 (by decide) rfl q1552 dX10_tellLikes_88 ?_
          refine zs_imul (pc := 91) dX10_tellLikes_91 ?_
          refine zs_bipush (pc := 92) (v := 6) dX10_tellLikes_92 (by decide) ?_
          refine zs_iload_n (pc := 94) 1 dX10_tellLikes_94 rfl rfl ?_
          refine zs_imul (pc := 95) dX10_tellLikes_95 ?_
          refine zs_iadd (pc := 96) dX10_tellLikes_96 ?_
          refine zs_iload_n (pc := 97) 2 dX10_tellLikes_97 rfl rfl ?_
          refine zs_iadd (pc := 98) dX10_tellLikes_98 ?_
          refine zs_nm (fun x9 => ?_)
          refine zs_iload (pc := 99) 3 dX10_tellLikes_99 rfl ?_
          refine zm_iast (pc := 101) 26 12 zm_p26 dX10_tellLikes_101 (fun M10 => ?_)
          refine zs_aload_n (pc := 102) 0 dX10_tellLikes_102 rfl rfl ?_
          refine zm_geta (pc := 103) 26 12 (by decide) rfl q1559 dX10_tellLikes_103 ?_
          refine zs_bipush (pc := 106) (v := 36) dX10_tellLikes_106 (by decide) ?_
          refine zs_aload_n (pc := 108) 0 dX10_tellLikes_108 rfl rfl ?_
          refine zm_geti (pc := 109) 19 (by decide) rfl q1552 dX10_tellLikes_109 ?_
          refine zs_imul (pc := 112) dX10_tellLikes_112 ?_
          refine zs_bipush (pc := 113) (v := 6) dX10_tellLikes_113 (by decide) ?_
          refine zs_iload_n (pc := 115) 2 dX10_tellLikes_115 rfl rfl ?_
          refine zs_imul (pc := 116) dX10_tellLikes_116 ?_
          refine zs_iadd (pc := 117) dX10_tellLikes_117 ?_
          refine zs_iload_n (pc := 118) 1 dX10_tellLikes_118 rfl rfl ?_
          refine zs_iadd (pc := 119) dX10_tellLikes_119 ?_
          refine zs_nm (fun x11 => ?_)
          refine zs_iload (pc := 120) 3 dX10_tellLikes_120 rfl ?_
          refine zm_iast (pc := 122) 26 12 zm_p26 dX10_tellLikes_122 (fun M12 => ?_)
          exact zs_vret (pc := 123) dX10_tellLikes_123 rfl rfl
  · refine zs_if_ne (pc := 19) (tgt := 37) dX10_tellLikes_19 (by decide) ?_ ?_
    · refine zs_iload_n (pc := 22) 1 dX10_tellLikes_22 rfl rfl ?_
      refine zs_if_lt (pc := 23) (tgt := 37) dX10_tellLikes_23 (by decide) ?_ ?_
      · refine zs_sub (lv' := [(0, .ref m), (1, .int p1.1), (3, .int p3.1)]) [0, 1, 3] rfl ?_
        exact h37 p3.2
      · refine zs_iload_n (pc := 26) 1 dX10_tellLikes_26 rfl rfl ?_
        refine zs_iload_n (pc := 27) 3 dX10_tellLikes_27 rfl rfl ?_
        refine zs_icmp_ne (pc := 28) (tgt := 37) dX10_tellLikes_28 (by decide) ?_ ?_
        · refine zs_aload_n (pc := 31) 0 dX10_tellLikes_31 rfl rfl ?_
          refine zs_iconst (pc := 32) (v := 3) dX10_tellLikes_32 rfl ?_
          refine zs_iload_n (pc := 33) 2 dX10_tellLikes_33 rfl rfl ?_
          refine zs_callVv (pc := 34) [.int 3, .int x2] [] (km_wrong D h0 m p3.2 3 x2) kv_wrong q1814 zc_X10 zm_recv dX10_tellLikes_34 rfl rfl (Nat.le_of_ble_eq_true rfl) (Nat.le_of_ble_eq_true rfl) (fun M13 => ?_)
          refine zs_sub (lv' := [(0, .ref m), (1, .int p1.1), (3, .int p3.1)]) [0, 1, 3] rfl ?_
          exact h37 M13
        · refine zs_sub (lv' := [(0, .ref m), (1, .int p1.1), (3, .int p3.1)]) [0, 1, 3] rfl ?_
          exact h37 p3.2
    · refine zs_sub (lv' := [(0, .ref m), (1, .int p1.1), (3, .int p3.1)]) [0, 1, 3] rfl ?_
      exact h37 p3.2
theorem kv_toldInt : zs_mV RX10 yX10_toldInt cX10_toldInt 4 (some .int) 2 := ⟨q1832, qs78, q152, q1833, by decide, by decide +kernel⟩
def gm_toldInt (M : zm_S) (a1 : Int32) (a2 : Int32) : Option (Int32 × zm_S) :=
(gm_goesOn M).bind fun M1 =>
(gm_bounded M1 a1 a2).bind fun p2 =>
(gm_must p2.2 4).bind fun M3 =>
some (p2.1, M3)
set_option maxHeartbeats 4000000 in
theorem km_toldInt (D : zs_D) (h0 : zs_AH) (m : Nat) (M : zm_S) (a1 : Int32) (a2 : Int32) : zs_Con D (zm_R h0 m) zm_bd zs_eI yX10_toldInt cX10_toldInt 4 (some .int) 3 [.ref m, .int a1, .int a2] M (gm_toldInt M a1 a2) := by
  unfold gm_toldInt
  refine zs_con (own := RX10) (nm := "toldInt") pl_X10 rfl rfl (Nat.le_of_ble_eq_true rfl) ?_
  refine zs_lv (lv' := [(0, .ref m), (1, .int a1), (2, .int a2)]) rfl ?_
  refine zs_aload_n (pc := 0) 0 dX10_toldInt_0 rfl rfl ?_
  refine zs_callVv (pc := 1) [] [] (km_goesOn D h0 m M) kv_goesOn q1802 zc_X10 zm_recv dX10_toldInt_1 rfl rfl (Nat.le_of_ble_eq_true rfl) (Nat.le_of_ble_eq_true rfl) (fun M1 => ?_)
  refine zs_aload_n (pc := 4) 0 dX10_toldInt_4 rfl rfl ?_
  refine zs_iload_n (pc := 5) 1 dX10_toldInt_5 rfl rfl ?_
  refine zs_iload_n (pc := 6) 2 dX10_toldInt_6 rfl rfl ?_
  refine zs_callVwI (pc := 7) [.int a1, .int a2] [] (km_bounded D h0 m M1 a1 a2) kv_bounded q1818 zc_X10 zm_recv dX10_toldInt_7 rfl rfl (Nat.le_of_ble_eq_true rfl) (Nat.le_of_ble_eq_true rfl) (fun p2 => ?_)
  refine zs_istore_n (pc := 10) (lv' := [(0, .ref m), (1, .int a1), (2, .int a2), (3, .int p2.1)]) [1, 2, 3, 0] dX10_toldInt_10 rfl (by decide) rfl ?_
  refine zs_aload_n (pc := 11) 0 dX10_toldInt_11 rfl rfl ?_
  refine zs_iconst (pc := 12) (v := 4) dX10_toldInt_12 rfl ?_
  refine zs_callVv (pc := 13) [.int 4] [] (km_must D h0 m p2.2 4) kv_must q1810 zc_X10 zm_recv dX10_toldInt_13 rfl rfl (Nat.le_of_ble_eq_true rfl) (Nat.le_of_ble_eq_true rfl) (fun M3 => ?_)
  refine zs_iload_n (pc := 16) 3 dX10_toldInt_16 rfl rfl ?_
  exact zs_iret (pc := 17) dX10_toldInt_17 rfl rfl rfl
theorem kv_emit : zs_mV RX10 yX10_emit cX10_emit 3 none 2 := ⟨q1848, qs82, q152, q1849, by decide, by decide +kernel⟩
def gm_emit (M : zm_S) (a1 : Int32) (a2 : Int32) : Option (zm_S) :=
(zs_ast 840 (M.1 39) (zm_sA M 40 (M.1 39) a1)).bind fun M1 =>
(zs_ast 840 (M1.1 39) (zm_sA M1 41 (M1.1 39) a2)).bind fun M2 =>
(some (zm_sF M2 39 ((M2.1 39) + 1))).bind fun M3 =>
some M3
set_option maxHeartbeats 4000000 in
theorem km_emit (D : zs_D) (h0 : zs_AH) (m : Nat) (M : zm_S) (a1 : Int32) (a2 : Int32) : zs_Con D (zm_R h0 m) zm_bd zs_eV yX10_emit cX10_emit 3 none 0 [.ref m, .int a1, .int a2] M ((gm_emit M a1 a2).map fun x => ((), x)) := by
  unfold gm_emit
  refine zs_conV (own := RX10) (nm := "emit") pl_X10 rfl rfl (Nat.le_of_ble_eq_true rfl) ?_
  refine zs_lv (lv' := [(0, .ref m), (1, .int a1), (2, .int a2)]) rfl ?_
  refine zs_aload_n (pc := 0) 0 dX10_emit_0 rfl rfl ?_
  refine zm_geta (pc := 1) 40 24 (by decide) rfl q1573 dX10_emit_1 ?_
  refine zs_aload_n (pc := 4) 0 dX10_emit_4 rfl rfl ?_
  refine zm_geti (pc := 5) 39 (by decide) rfl q1572 dX10_emit_5 ?_
  refine zs_iload_n (pc := 8) 1 dX10_emit_8 rfl rfl ?_
  refine zm_iast (pc := 9) 40 24 zm_p40 dX10_emit_9 (fun M1 => ?_)
  refine zs_aload_n (pc := 10) 0 dX10_emit_10 rfl rfl ?_
  refine zm_geta (pc := 11) 41 25 (by decide) rfl q1574 dX10_emit_11 ?_
  refine zs_aload_n (pc := 14) 0 dX10_emit_14 rfl rfl ?_
  refine zm_geti (pc := 15) 39 (by decide) rfl q1572 dX10_emit_15 ?_
  refine zs_iload_n (pc := 18) 2 dX10_emit_18 rfl rfl ?_
  refine zm_iast (pc := 19) 41 25 zm_p41 dX10_emit_19 (fun M2 => ?_)
  refine zs_aload_n (pc := 20) 0 dX10_emit_20 rfl rfl ?_
  refine zs_dup (pc := 21) dX10_emit_21 rfl ?_
  refine zm_geti (pc := 22) 39 (by decide) rfl q1572 dX10_emit_22 ?_
  refine zs_iconst (pc := 25) (v := 1) dX10_emit_25 rfl ?_
  refine zs_iadd (pc := 26) dX10_emit_26 ?_
  refine zm_puti (pc := 27) 39 (by decide) rfl q1572 rfl rfl rfl dX10_emit_27 ?_
  refine zs_nmM (fun M3 => ?_)
  exact zs_vret (pc := 30) dX10_emit_30 rfl rfl
theorem kv_unit : zs_mV RX10 yX10_unit cX10_unit 1 none 0 := ⟨q1844, qs81, q152, q1845, by decide, by decide +kernel⟩
def gm_unit (M : zm_S) : Option (zm_S) :=
(gm_is M 2).bind fun b1 =>
if b1 = true then ((zs_ald 403 (M.2.1 7) (M.1 11)).bind fun x9 =>
(gm_emit M 0 x9).bind fun M10 =>
(gm_goesOn M10).bind fun M11 =>
some M11)
else (zs_let (fun (p2 : Unit) => (gm_fail M 1).bind fun M3 =>
some M3) fun J88 =>
if (M.1 13) = 0 then ((zs_ald 403 (M.2.1 5) (M.1 11)).bind fun x4 =>
if x4 < 33 then (J88 ())
else ((zs_ald 403 (M.2.1 5) (M.1 11)).bind fun x5 =>
if 41 < x5 then (J88 ())
else ((zs_ald 403 (M.2.1 5) (M.1 11)).bind fun x6 =>
(gm_emit M 1 (x6 - 33)).bind fun M7 =>
(gm_goesOn M7).bind fun M8 =>
some M8)))
else (J88 ()))
set_option maxHeartbeats 4000000 in
theorem km_unit (D : zs_D) (h0 : zs_AH) (m : Nat) (M : zm_S) : zs_Con D (zm_R h0 m) zm_bd zs_eV yX10_unit cX10_unit 1 none 2 [.ref m] M ((gm_unit M).map fun x => ((), x)) := by
  unfold gm_unit
  refine zs_conV (own := RX10) (nm := "unit") pl_X10 rfl rfl (Nat.le_of_ble_eq_true rfl) ?_
  refine zs_lv (lv' := [(0, .ref m)]) rfl ?_
  refine zs_aload_n (pc := 0) 0 dX10_unit_0 rfl rfl ?_
  refine zs_iconst (pc := 1) (v := 2) dX10_unit_1 rfl ?_
  refine zs_callVrB (pc := 2) [.int 2] [] (km_is D h0 m M 2) kv_is q1786 zc_X10 zm_recv dX10_unit_2 rfl rfl (Nat.le_of_ble_eq_true rfl) (Nat.le_of_ble_eq_true rfl) (fun b1 => ?_)
  refine zs_if_f (pc := 5) (tgt := 29) dX10_unit_5 (by decide) ?_ ?_
  · refine zs_aload_n (pc := 8) 0 dX10_unit_8 rfl rfl ?_
    refine zs_iconst (pc := 9) (v := 0) dX10_unit_9 rfl ?_
    refine zs_aload_n (pc := 10) 0 dX10_unit_10 rfl rfl ?_
    refine zm_geta (pc := 11) 7 4 (by decide) rfl q1540 dX10_unit_11 ?_
    refine zs_aload_n (pc := 14) 0 dX10_unit_14 rfl rfl ?_
    refine zm_geti (pc := 15) 11 (by decide) rfl q1544 dX10_unit_15 ?_
    refine zm_iald (pc := 18) 7 4 zm_p7 dX10_unit_18 (fun x9 => ?_)
    refine zs_callVv (pc := 19) [.int 0, .int x9] [] (km_emit D h0 m M 0 x9) kv_emit q1846 zc_X10 zm_recv dX10_unit_19 rfl rfl (Nat.le_of_ble_eq_true rfl) (Nat.le_of_ble_eq_true rfl) (fun M10 => ?_)
    refine zs_aload_n (pc := 22) 0 dX10_unit_22 rfl rfl ?_
    refine zs_callVv (pc := 23) [] [] (km_goesOn D h0 m M10) kv_goesOn q1802 zc_X10 zm_recv dX10_unit_23 rfl rfl (Nat.le_of_ble_eq_true rfl) (Nat.le_of_ble_eq_true rfl) (fun M11 => ?_)
    refine zs_goto (pc := 26) (tgt := 93) dX10_unit_26 (by decide) ?_
    exact zs_vret (pc := 93) dX10_unit_93 rfl rfl
  · refine zs_aload_n (pc := 29) 0 dX10_unit_29 rfl rfl ?_
    refine zm_geti (pc := 30) 13 (by decide) rfl q1546 dX10_unit_30 ?_
    refine zs_letJ (pc := 33) (fun (p2 : Unit) => M) 88 (fun (p2 : Unit) => [(0, .ref m)]) (fun (p2 : Unit) => []) (fun p2 => ?_) (fun J88 h88 => ?_)
    · refine zs_aload_n (pc := 88) 0 dX10_unit_88 rfl rfl ?_
      refine zs_iconst (pc := 89) (v := 1) dX10_unit_89 rfl ?_
      refine zs_callVv (pc := 90) [.int 1] [] (km_fail D h0 m M 1) kv_fail q1798 zc_X10 zm_recv dX10_unit_90 rfl rfl (Nat.le_of_ble_eq_true rfl) (Nat.le_of_ble_eq_true rfl) (fun M3 => ?_)
      exact zs_vret (pc := 93) dX10_unit_93 rfl rfl
    · refine zs_if_ne (pc := 33) (tgt := 88) dX10_unit_33 (by decide) ?_ ?_
      · refine zs_aload_n (pc := 36) 0 dX10_unit_36 rfl rfl ?_
        refine zm_geta (pc := 37) 5 2 (by decide) rfl q1538 dX10_unit_37 ?_
        refine zs_aload_n (pc := 40) 0 dX10_unit_40 rfl rfl ?_
        refine zm_geti (pc := 41) 11 (by decide) rfl q1544 dX10_unit_41 ?_
        refine zm_iald (pc := 44) 5 2 zm_p5 dX10_unit_44 (fun x4 => ?_)
        refine zs_bipush (pc := 45) (v := 33) dX10_unit_45 (by decide) ?_
        refine zs_icmp_lt (pc := 47) (tgt := 88) dX10_unit_47 (by decide) ?_ ?_
        · exact h88 ()
        · refine zs_aload_n (pc := 50) 0 dX10_unit_50 rfl rfl ?_
          refine zm_geta (pc := 51) 5 2 (by decide) rfl q1538 dX10_unit_51 ?_
          refine zs_aload_n (pc := 54) 0 dX10_unit_54 rfl rfl ?_
          refine zm_geti (pc := 55) 11 (by decide) rfl q1544 dX10_unit_55 ?_
          refine zm_iald (pc := 58) 5 2 zm_p5 dX10_unit_58 (fun x5 => ?_)
          refine zs_bipush (pc := 59) (v := 41) dX10_unit_59 (by decide) ?_
          refine zs_icmp_gt (pc := 61) (tgt := 88) dX10_unit_61 (by decide) ?_ ?_
          · exact h88 ()
          · refine zs_aload_n (pc := 64) 0 dX10_unit_64 rfl rfl ?_
            refine zs_iconst (pc := 65) (v := 1) dX10_unit_65 rfl ?_
            refine zs_aload_n (pc := 66) 0 dX10_unit_66 rfl rfl ?_
            refine zm_geta (pc := 67) 5 2 (by decide) rfl q1538 dX10_unit_67 ?_
            refine zs_aload_n (pc := 70) 0 dX10_unit_70 rfl rfl ?_
            refine zm_geti (pc := 71) 11 (by decide) rfl q1544 dX10_unit_71 ?_
            refine zm_iald (pc := 74) 5 2 zm_p5 dX10_unit_74 (fun x6 => ?_)
            refine zs_bipush (pc := 75) (v := 33) dX10_unit_75 (by decide) ?_
            refine zs_isub (pc := 77) dX10_unit_77 ?_
            refine zs_callVv (pc := 78) [.int 1, .int (x6 - 33)] [] (km_emit D h0 m M 1 (x6 - 33)) kv_emit q1846 zc_X10 zm_recv dX10_unit_78 rfl rfl (Nat.le_of_ble_eq_true rfl) (Nat.le_of_ble_eq_true rfl) (fun M7 => ?_)
            refine zs_aload_n (pc := 81) 0 dX10_unit_81 rfl rfl ?_
            refine zs_callVv (pc := 82) [] [] (km_goesOn D h0 m M7) kv_goesOn q1802 zc_X10 zm_recv dX10_unit_82 rfl rfl (Nat.le_of_ble_eq_true rfl) (Nat.le_of_ble_eq_true rfl) (fun M8 => ?_)
            refine zs_goto (pc := 85) (tgt := 93) dX10_unit_85 (by decide) ?_
            exact zs_vret (pc := 93) dX10_unit_93 rfl rfl
      · exact h88 ()
theorem kv_comesOut : zs_mV RX10 yX10_comesOut cX10_comesOut 3 none 1 := ⟨q1852, qs83, q152, q1853, by decide, by decide +kernel⟩
def gm_comesOut_L0 (a1 : Int32) : (zm_S) → Option ((zm_S) ⊕ (zm_S)) := fun t0 =>
if 0 < (t0.1 43) then ((zs_ald 64 (t0.2.1 42) ((t0.1 43) - 1)).bind fun x1 =>
if x1 = 6 then (some (Sum.inr t0))
else (zs_let (fun (p2 : Unit) => (some (zm_sF t0 43 ((t0.1 43) - 1))).bind fun M3 =>
(if x1 = 8 then (some 2)
else (if x1 = 9 then (some 3)
else (if x1 = 10 then (some 4)
else (some 5)))).bind fun (p4 : Int32) =>
(gm_emit M3 p4 0).bind fun M5 =>
some (Sum.inl M5)) fun J42 =>
if a1 = 0 then (J42 ())
else (if x1 = 8 then (some (Sum.inr t0))
else (if x1 = 9 then (some (Sum.inr t0))
else (J42 ())))))
else (some (Sum.inr t0))
def gm_comesOut (M : zm_S) (a1 : Int32) : Option (zm_S) :=
(zs_loop 5000 (gm_comesOut_L0 a1) M).bind fun z => some z
set_option maxHeartbeats 4000000 in
theorem km_comesOut (D : zs_D) (h0 : zs_AH) (m : Nat) (M : zm_S) (a1 : Int32) : zs_Con D (zm_R h0 m) zm_bd zs_eV yX10_comesOut cX10_comesOut 3 none 1 [.ref m, .int a1] M ((gm_comesOut M a1).map fun x => ((), x)) := by
  unfold gm_comesOut
  refine zs_conV (own := RX10) (nm := "comesOut") pl_X10 rfl rfl (Nat.le_of_ble_eq_true rfl) ?_
  refine zs_lv (lv' := [(0, .ref m), (1, .int a1)]) rfl ?_
  refine zs_whileX (pc := 0) (fun (t0 : zm_S) => t0) (fun (t0 : zm_S) => [(0, .ref m), (1, .int a1)]) 5000 M (fun X0 hL0 hR0 t0 => ?_)
  unfold gm_comesOut_L0
  refine zs_aload_n (pc := 0) 0 dX10_comesOut_0 rfl rfl ?_
  refine zm_geti (pc := 1) 43 (by decide) rfl q1576 dX10_comesOut_1 ?_
  refine zs_if_le (pc := 4) (tgt := 91) dX10_comesOut_4 (by decide) ?_ ?_
  · refine zs_aload_n (pc := 7) 0 dX10_comesOut_7 rfl rfl ?_
    refine zm_geta (pc := 8) 42 26 (by decide) rfl q1575 dX10_comesOut_8 ?_
    refine zs_aload_n (pc := 11) 0 dX10_comesOut_11 rfl rfl ?_
    refine zm_geti (pc := 12) 43 (by decide) rfl q1576 dX10_comesOut_12 ?_
    refine zs_iconst (pc := 15) (v := 1) dX10_comesOut_15 rfl ?_
    refine zs_isub (pc := 16) dX10_comesOut_16 ?_
    refine zm_iald (pc := 17) 42 26 zm_p42 dX10_comesOut_17 (fun x1 => ?_)
    refine zs_istore_n (pc := 18) (lv' := [(0, .ref m), (1, .int a1), (2, .int x1)]) [1, 2, 0] dX10_comesOut_18 rfl (by decide) rfl ?_
    refine zs_iload_n (pc := 19) 2 dX10_comesOut_19 rfl rfl ?_
    refine zs_bipush (pc := 20) (v := 6) dX10_comesOut_20 (by decide) ?_
    refine zs_icmp_eq (pc := 22) (tgt := 41) dX10_comesOut_22 (by decide) ?_ ?_
    · exact zs_vret (pc := 41) dX10_comesOut_41 ((hR0 _).trans rfl) rfl
    · refine zs_iload_n (pc := 25) 1 dX10_comesOut_25 rfl rfl ?_
      refine zs_letJ (pc := 26) (fun (p2 : Unit) => t0) 42 (fun (p2 : Unit) => [(0, .ref m), (1, .int a1), (2, .int x1)]) (fun (p2 : Unit) => []) (fun p2 => ?_) (fun J42 h42 => ?_)
      · refine zs_aload_n (pc := 42) 0 dX10_comesOut_42 rfl rfl ?_
        refine zs_dup (pc := 43) dX10_comesOut_43 rfl ?_
        refine zm_geti (pc := 44) 43 (by decide) rfl q1576 dX10_comesOut_44 ?_
        refine zs_iconst (pc := 47) (v := 1) dX10_comesOut_47 rfl ?_
        refine zs_isub (pc := 48) dX10_comesOut_48 ?_
        refine zm_puti (pc := 49) 43 (by decide) rfl q1576 rfl rfl rfl dX10_comesOut_49 ?_
        refine zs_nmM (fun M3 => ?_)
        refine zs_aload_n (pc := 52) 0 dX10_comesOut_52 rfl rfl ?_
        refine zs_iload_n (pc := 53) 2 dX10_comesOut_53 rfl rfl ?_
        refine zs_bipush (pc := 54) (v := 8) dX10_comesOut_54 (by decide) ?_
        refine zs_join (pc := 56) (fun (p4 : Int32) => M3) 84 (fun (p4 : Int32) => [(0, .ref m), (1, .int a1)]) (fun (p4 : Int32) => [.int p4, .ref m]) (fun p4 => ?_) (fun h84 => ?_)
        · refine zs_iconst (pc := 84) (v := 0) dX10_comesOut_84 rfl ?_
          refine zs_callVv (pc := 85) [.int p4, .int 0] [] (km_emit D h0 m M3 p4 0) kv_emit q1846 zc_X10 zm_recv dX10_comesOut_85 rfl rfl (Nat.le_of_ble_eq_true rfl) (Nat.le_of_ble_eq_true rfl) (fun M5 => ?_)
          refine zs_goto (pc := 88) (tgt := 0) dX10_comesOut_88 (by decide) ?_
          exact hL0 M5
        · refine zs_icmp_ne (pc := 56) (tgt := 63) dX10_comesOut_56 (by decide) ?_ ?_
          · refine zs_iconst (pc := 59) (v := 2) dX10_comesOut_59 rfl ?_
            refine zs_goto (pc := 60) (tgt := 84) dX10_comesOut_60 (by decide) ?_
            refine zs_sub (lv' := [(0, .ref m), (1, .int a1)]) [0, 1] rfl ?_
            exact h84 2
          · refine zs_iload_n (pc := 63) 2 dX10_comesOut_63 rfl rfl ?_
            refine zs_bipush (pc := 64) (v := 9) dX10_comesOut_64 (by decide) ?_
            refine zs_icmp_ne (pc := 66) (tgt := 73) dX10_comesOut_66 (by decide) ?_ ?_
            · refine zs_iconst (pc := 69) (v := 3) dX10_comesOut_69 rfl ?_
              refine zs_goto (pc := 70) (tgt := 84) dX10_comesOut_70 (by decide) ?_
              refine zs_sub (lv' := [(0, .ref m), (1, .int a1)]) [0, 1] rfl ?_
              exact h84 3
            · refine zs_iload_n (pc := 73) 2 dX10_comesOut_73 rfl rfl ?_
              refine zs_bipush (pc := 74) (v := 10) dX10_comesOut_74 (by decide) ?_
              refine zs_icmp_ne (pc := 76) (tgt := 83) dX10_comesOut_76 (by decide) ?_ ?_
              · refine zs_iconst (pc := 79) (v := 4) dX10_comesOut_79 rfl ?_
                refine zs_goto (pc := 80) (tgt := 84) dX10_comesOut_80 (by decide) ?_
                refine zs_sub (lv' := [(0, .ref m), (1, .int a1)]) [0, 1] rfl ?_
                exact h84 4
              · refine zs_iconst (pc := 83) (v := 5) dX10_comesOut_83 rfl ?_
                refine zs_sub (lv' := [(0, .ref m), (1, .int a1)]) [0, 1] rfl ?_
                exact h84 5
      · refine zs_if_eq (pc := 26) (tgt := 42) dX10_comesOut_26 (by decide) ?_ ?_
        · exact h42 ()
        · refine zs_iload_n (pc := 29) 2 dX10_comesOut_29 rfl rfl ?_
          refine zs_bipush (pc := 30) (v := 8) dX10_comesOut_30 (by decide) ?_
          refine zs_icmp_eq (pc := 32) (tgt := 41) dX10_comesOut_32 (by decide) ?_ ?_
          · exact zs_vret (pc := 41) dX10_comesOut_41 ((hR0 _).trans rfl) rfl
          · refine zs_iload_n (pc := 35) 2 dX10_comesOut_35 rfl rfl ?_
            refine zs_bipush (pc := 36) (v := 9) dX10_comesOut_36 (by decide) ?_
            refine zs_icmp_ne (pc := 38) (tgt := 42) dX10_comesOut_38 (by decide) ?_ ?_
            · exact zs_vret (pc := 41) dX10_comesOut_41 ((hR0 _).trans rfl) rfl
            · exact h42 ()
  · exact zs_vret (pc := 91) dX10_comesOut_91 ((hR0 _).trans rfl) rfl
theorem kv_expression : zs_mV RX10 yX10_expression cX10_expression 3 none 0 := ⟨q1840, qs80, q152, q1841, by decide, by decide +kernel⟩
def gm_expression_L23 : (zm_S) → Option ((zm_S) ⊕ (zm_S)) := fun t23 =>
(gm_is t23 6).bind fun b3 =>
if b3 = true then ((if (t23.1 12) = 6 then ((gm_fail t23 2).bind fun M9 =>
some M9)
else (some t23)).bind fun (p4 : zm_S) =>
(some (zm_sF p4 12 ((p4.1 12) + 1))).bind fun M5 =>
(gm_goesOn M5).bind fun M6 =>
(zs_ast 64 (M6.1 43) (zm_sA M6 42 (M6.1 43) 6)).bind fun M7 =>
(some (zm_sF M7 43 ((M7.1 43) + 1))).bind fun M8 =>
some (Sum.inl M8))
else (some (Sum.inr t23))
def gm_expression_L96 (x2 : Int32) : (zm_S) → Option ((zm_S) ⊕ (zm_S)) := fun t96 =>
(gm_is t96 7).bind fun b12 =>
if b12 = true then (if x2 < (t96.1 12) then ((gm_comesOut t96 0).bind fun M13 =>
(some (zm_sF M13 43 ((M13.1 43) - 1))).bind fun M14 =>
(some (zm_sF M14 12 ((M14.1 12) - 1))).bind fun M15 =>
(gm_goesOn M15).bind fun M16 =>
some (Sum.inl M16))
else (some (Sum.inr t96)))
else (some (Sum.inr t96))
def gm_expression_L12 (x2 : Int32) : (Int32 × zm_S) → Option ((Int32 × zm_S) ⊕ ((zm_S) ⊕ (zm_S))) := fun t12 =>
if t12.1 = 0 then (some (Sum.inr (Sum.inr t12.2)))
else (if (t12.2.1 13) = 0 then ((zs_loop 5000 gm_expression_L23 t12.2).bind fun (r10 : zm_S) =>
(gm_unit r10).bind fun M11 =>
if 0 < (M11.1 13) then (some (Sum.inr (Sum.inr M11)))
else ((zs_loop 5000 (gm_expression_L96 x2) M11).bind fun (r17 : zm_S) =>
(gm_is r17 8).bind fun b18 =>
(zs_let (fun (p29 : Unit) => some 1) fun J181 =>
if b18 = true then (J181 ())
else ((gm_is r17 9).bind fun b30 =>
if b30 = true then (J181 ())
else ((gm_is r17 10).bind fun b31 =>
if b31 = true then (J181 ())
else ((gm_is r17 15).bind fun b32 =>
if b32 = true then (J181 ())
else (some 0))))).bind fun (p19 : Int32) =>
if p19 = 0 then (some (Sum.inr (Sum.inl r17)))
else ((gm_is r17 10).bind fun b20 =>
(zs_let (fun (p27 : Unit) => some 1) fun J229 =>
if b20 = true then (J229 ())
else ((gm_is r17 15).bind fun b28 =>
if b28 = true then (J229 ())
else (some 0))).bind fun (p21 : Int32) =>
(gm_comesOut r17 p21).bind fun M22 =>
(zs_ald 403 (M22.2.1 5) (M22.1 11)).bind fun x23 =>
(zs_ast 64 (M22.1 43) (zm_sA M22 42 (M22.1 43) x23)).bind fun M24 =>
(some (zm_sF M24 43 ((M24.1 43) + 1))).bind fun M25 =>
(gm_goesOn M25).bind fun M26 =>
some (Sum.inl (p19, M26)))))
else (some (Sum.inr (Sum.inr t12.2))))
def gm_expression (M : zm_S) : Option (zm_S) :=
(some (zm_sF M 43 0)).bind fun M1 =>
(some (M1.1 12)).bind fun x2 =>
(zs_loop 5000 (gm_expression_L12 x2) (1, M1)).bind (Sum.elim (fun (r33 : zm_S) =>
(if x2 < (r33.1 12) then ((gm_fail r33 1).bind fun M36 =>
some M36)
else (some r33)).bind fun (p34 : zm_S) =>
(gm_comesOut p34 0).bind fun M35 =>
some M35)
 (fun z => some z))
set_option maxHeartbeats 4000000 in
theorem km_expression (D : zs_D) (h0 : zs_AH) (m : Nat) (M : zm_S) : zs_Con D (zm_R h0 m) zm_bd zs_eV yX10_expression cX10_expression 3 none 3 [.ref m] M ((gm_expression M).map fun x => ((), x)) := by
  unfold gm_expression
  refine zs_conV (own := RX10) (nm := "expression") pl_X10 rfl rfl (Nat.le_of_ble_eq_true rfl) ?_
  refine zs_lv (lv' := [(0, .ref m)]) rfl ?_
  refine zs_aload_n (pc := 0) 0 dX10_expression_0 rfl rfl ?_
  refine zs_iconst (pc := 1) (v := 0) dX10_expression_1 rfl ?_
  refine zm_puti (pc := 2) 43 (by decide) rfl q1576 rfl rfl rfl dX10_expression_2 ?_
  refine zs_nmM (fun M1 => ?_)
  refine zs_aload_n (pc := 5) 0 dX10_expression_5 rfl rfl ?_
  refine zm_geti (pc := 6) 12 (by decide) rfl q1545 dX10_expression_6 ?_
  refine zs_nm (fun x2 => ?_)
  refine zs_istore_n (pc := 9) (lv' := [(0, .ref m), (1, .int x2)]) [1, 0] dX10_expression_9 rfl (by decide) rfl ?_
  refine zs_iconst (pc := 10) (v := 1) dX10_expression_10 rfl ?_
  refine zs_istore_n (pc := 11) (lv' := [(0, .ref m), (1, .int x2), (2, .int 1)]) [1, 2, 0] dX10_expression_11 rfl (by decide) rfl ?_
  refine zs_whileR (pc := 12) (fun (t12 : Int32 × zm_S) => t12.2) (fun (t12 : Int32 × zm_S) => [(0, .ref m), (1, .int x2), (2, .int t12.1)]) 5000 (1, M1) (fun (r33 : zm_S) => r33) 191 (fun (r33 : zm_S) => [(0, .ref m), (1, .int x2)]) [] (fun r33 => ?_) (fun X12 hL12 hE12 hR12 t12 => ?_)
  · refine zs_aload_n (pc := 191) 0 dX10_expression_191 rfl rfl ?_
    refine zm_geti (pc := 192) 12 (by decide) rfl q1545 dX10_expression_192 ?_
    refine zs_iload_n (pc := 195) 1 dX10_expression_195 rfl rfl ?_
    refine zs_join (pc := 196) (fun (p34 : zm_S) => p34) 204 (fun (p34 : zm_S) => [(0, .ref m)]) (fun (p34 : zm_S) => []) (fun p34 => ?_) (fun h204 => ?_)
    · refine zs_aload_n (pc := 204) 0 dX10_expression_204 rfl rfl ?_
      refine zs_iconst (pc := 205) (v := 0) dX10_expression_205 rfl ?_
      refine zs_callVv (pc := 206) [.int 0] [] (km_comesOut D h0 m p34 0) kv_comesOut q1850 zc_X10 zm_recv dX10_expression_206 rfl rfl (Nat.le_of_ble_eq_true rfl) (Nat.le_of_ble_eq_true rfl) (fun M35 => ?_)
      exact zs_vret (pc := 209) dX10_expression_209 rfl rfl
    · refine zs_icmp_le (pc := 196) (tgt := 204) dX10_expression_196 (by decide) ?_ ?_
      · refine zs_aload_n (pc := 199) 0 dX10_expression_199 rfl rfl ?_
        refine zs_iconst (pc := 200) (v := 1) dX10_expression_200 rfl ?_
        refine zs_callVv (pc := 201) [.int 1] [] (km_fail D h0 m r33 1) kv_fail q1798 zc_X10 zm_recv dX10_expression_201 rfl rfl (Nat.le_of_ble_eq_true rfl) (Nat.le_of_ble_eq_true rfl) (fun M36 => ?_)
        refine zs_sub (lv' := [(0, .ref m)]) [0] rfl ?_
        exact h204 M36
      · refine zs_sub (lv' := [(0, .ref m)]) [0] rfl ?_
        exact h204 r33
  · unfold gm_expression_L12
    refine zs_iload_n (pc := 12) 2 dX10_expression_12 rfl rfl ?_
    refine zs_if_eq (pc := 13) (tgt := 272) dX10_expression_13 (by decide) ?_ ?_
    · exact zs_vret (pc := 272) dX10_expression_272 ((hR12 _).trans rfl) rfl
    · refine zs_aload_n (pc := 16) 0 dX10_expression_16 rfl rfl ?_
      refine zm_geti (pc := 17) 13 (by decide) rfl q1546 dX10_expression_17 ?_
      refine zs_if_ne (pc := 20) (tgt := 272) dX10_expression_20 (by decide) ?_ ?_
      · refine zs_sub (pc := 23) (lv' := [(0, .ref m), (1, .int x2)]) [0, 1] rfl ?_
        refine zs_whileJ (pc := 23) (fun (t23 : zm_S) => t23) (fun (t23 : zm_S) => [(0, .ref m), (1, .int x2)]) 5000 t12.2 (fun (r10 : zm_S) => r10) 84 (fun (r10 : zm_S) => [(0, .ref m), (1, .int x2)]) [] (fun r10 => ?_) (fun X23 hL23 hE23 t23 => ?_)
        · refine zs_aload_n (pc := 84) 0 dX10_expression_84 rfl rfl ?_
          refine zs_callVv (pc := 85) [] [] (km_unit D h0 m r10) kv_unit q1842 zc_X10 zm_recv dX10_expression_85 rfl rfl (Nat.le_of_ble_eq_true rfl) (Nat.le_of_ble_eq_true rfl) (fun M11 => ?_)
          refine zs_aload_n (pc := 88) 0 dX10_expression_88 rfl rfl ?_
          refine zm_geti (pc := 89) 13 (by decide) rfl q1546 dX10_expression_89 ?_
          refine zs_if_le (pc := 92) (tgt := 96) dX10_expression_92 (by decide) ?_ ?_
          · exact zs_vret (pc := 95) dX10_expression_95 ((hR12 _).trans rfl) rfl
          · refine zs_whileJ (pc := 96) (fun (t96 : zm_S) => t96) (fun (t96 : zm_S) => [(0, .ref m), (1, .int x2)]) 5000 M11 (fun (r17 : zm_S) => r17) 145 (fun (r17 : zm_S) => [(0, .ref m), (1, .int x2)]) [] (fun r17 => ?_) (fun X96 hL96 hE96 t96 => ?_)
            · refine zs_aload_n (pc := 145) 0 dX10_expression_145 rfl rfl ?_
              refine zs_bipush (pc := 146) (v := 8) dX10_expression_146 (by decide) ?_
              refine zs_callVrB (pc := 148) [.int 8] [] (km_is D h0 m r17 8) kv_is q1786 zc_X10 zm_recv dX10_expression_148 rfl rfl (Nat.le_of_ble_eq_true rfl) (Nat.le_of_ble_eq_true rfl) (fun b18 => ?_)
              refine zs_join (pc := 151) (fun (p19 : Int32) => r17) 186 (fun (p19 : Int32) => [(0, .ref m), (1, .int x2)]) (fun (p19 : Int32) => [.int p19]) (fun p19 => ?_) (fun h186 => ?_)
              · refine zs_istore_n (pc := 186) (lv' := [(0, .ref m), (1, .int x2), (2, .int p19)]) [1, 2, 0] dX10_expression_186 rfl (by decide) rfl ?_
                refine zs_iload_n (pc := 187) 2 dX10_expression_187 rfl rfl ?_
                refine zs_if_ne (pc := 188) (tgt := 210) dX10_expression_188 (by decide) ?_ ?_
                · refine zs_sub (lv' := [(0, .ref m), (1, .int x2)]) [0, 1] rfl ?_
                  exact hE12 r17
                · refine zs_aload_n (pc := 210) 0 dX10_expression_210 rfl rfl ?_
                  refine zs_aload_n (pc := 211) 0 dX10_expression_211 rfl rfl ?_
                  refine zs_bipush (pc := 212) (v := 10) dX10_expression_212 (by decide) ?_
                  refine zs_callVrB (pc := 214) [.int 10] [.ref m] (km_is D h0 m r17 10) kv_is q1786 zc_X10 zm_recv dX10_expression_214 rfl rfl (Nat.le_of_ble_eq_true rfl) (Nat.le_of_ble_eq_true rfl) (fun b20 => ?_)
                  refine zs_join (pc := 217) (fun (p21 : Int32) => r17) 234 (fun (p21 : Int32) => [(0, .ref m), (1, .int x2), (2, .int p19)]) (fun (p21 : Int32) => [.int p21, .ref m]) (fun p21 => ?_) (fun h234 => ?_)
                  · refine zs_callVv (pc := 234) [.int p21] [] (km_comesOut D h0 m r17 p21) kv_comesOut q1850 zc_X10 zm_recv dX10_expression_234 rfl rfl (Nat.le_of_ble_eq_true rfl) (Nat.le_of_ble_eq_true rfl) (fun M22 => ?_)
                    refine zs_aload_n (pc := 237) 0 dX10_expression_237 rfl rfl ?_
                    refine zm_geta (pc := 238) 42 26 (by decide) rfl q1575 dX10_expression_238 ?_
                    refine zs_aload_n (pc := 241) 0 dX10_expression_241 rfl rfl ?_
                    refine zm_geti (pc := 242) 43 (by decide) rfl q1576 dX10_expression_242 ?_
                    refine zs_aload_n (pc := 245) 0 dX10_expression_245 rfl rfl ?_
                    refine zm_geta (pc := 246) 5 2 (by decide) rfl q1538 dX10_expression_246 ?_
                    refine zs_aload_n (pc := 249) 0 dX10_expression_249 rfl rfl ?_
                    refine zm_geti (pc := 250) 11 (by decide) rfl q1544 dX10_expression_250 ?_
                    refine zm_iald (pc := 253) 5 2 zm_p5 dX10_expression_253 (fun x23 => ?_)
                    refine zm_iast (pc := 254) 42 26 zm_p42 dX10_expression_254 (fun M24 => ?_)
                    refine zs_aload_n (pc := 255) 0 dX10_expression_255 rfl rfl ?_
                    refine zs_dup (pc := 256) dX10_expression_256 rfl ?_
                    refine zm_geti (pc := 257) 43 (by decide) rfl q1576 dX10_expression_257 ?_
                    refine zs_iconst (pc := 260) (v := 1) dX10_expression_260 rfl ?_
                    refine zs_iadd (pc := 261) dX10_expression_261 ?_
                    refine zm_puti (pc := 262) 43 (by decide) rfl q1576 rfl rfl rfl dX10_expression_262 ?_
                    refine zs_nmM (fun M25 => ?_)
                    refine zs_aload_n (pc := 265) 0 dX10_expression_265 rfl rfl ?_
                    refine zs_callVv (pc := 266) [] [] (km_goesOn D h0 m M25) kv_goesOn q1802 zc_X10 zm_recv dX10_expression_266 rfl rfl (Nat.le_of_ble_eq_true rfl) (Nat.le_of_ble_eq_true rfl) (fun M26 => ?_)
                    refine zs_goto (pc := 269) (tgt := 12) dX10_expression_269 (by decide) ?_
                    exact hL12 (p19, M26)
                  · refine zs_letJ (pc := 217) (fun (p27 : Unit) => r17) 229 (fun (p27 : Unit) => [(0, .ref m), (1, .int x2), (2, .int p19)]) (fun (p27 : Unit) => [.ref m]) (fun p27 => ?_) (fun J229 h229 => ?_)
                    · refine zs_iconst (pc := 229) (v := 1) dX10_expression_229 rfl ?_
                      refine zs_goto (pc := 230) (tgt := 234) dX10_expression_230 (by decide) ?_
                      exact h234 1
                    · refine zs_if_t (pc := 217) (tgt := 229) dX10_expression_217 (by decide) ?_ ?_
                      · exact h229 ()
                      · refine zs_aload_n (pc := 220) 0 dX10_expression_220 rfl rfl ?_
                        refine zs_bipush (pc := 221) (v := 15) dX10_expression_221 (by decide) ?_
                        refine zs_callVrB (pc := 223) [.int 15] [.ref m] (km_is D h0 m r17 15) kv_is q1786 zc_X10 zm_recv dX10_expression_223 rfl rfl (Nat.le_of_ble_eq_true rfl) (Nat.le_of_ble_eq_true rfl) (fun b28 => ?_)
                        refine zs_if_f (pc := 226) (tgt := 233) dX10_expression_226 (by decide) ?_ ?_
                        · exact h229 ()
                        · refine zs_iconst (pc := 233) (v := 0) dX10_expression_233 rfl ?_
                          exact h234 0
              · refine zs_letJ (pc := 151) (fun (p29 : Unit) => r17) 181 (fun (p29 : Unit) => [(0, .ref m), (1, .int x2)]) (fun (p29 : Unit) => []) (fun p29 => ?_) (fun J181 h181 => ?_)
                · refine zs_iconst (pc := 181) (v := 1) dX10_expression_181 rfl ?_
                  refine zs_goto (pc := 182) (tgt := 186) dX10_expression_182 (by decide) ?_
                  exact h186 1
                · refine zs_if_t (pc := 151) (tgt := 181) dX10_expression_151 (by decide) ?_ ?_
                  · exact h181 ()
                  · refine zs_aload_n (pc := 154) 0 dX10_expression_154 rfl rfl ?_
                    refine zs_bipush (pc := 155) (v := 9) dX10_expression_155 (by decide) ?_
                    refine zs_callVrB (pc := 157) [.int 9] [] (km_is D h0 m r17 9) kv_is q1786 zc_X10 zm_recv dX10_expression_157 rfl rfl (Nat.le_of_ble_eq_true rfl) (Nat.le_of_ble_eq_true rfl) (fun b30 => ?_)
                    refine zs_if_t (pc := 160) (tgt := 181) dX10_expression_160 (by decide) ?_ ?_
                    · exact h181 ()
                    · refine zs_aload_n (pc := 163) 0 dX10_expression_163 rfl rfl ?_
                      refine zs_bipush (pc := 164) (v := 10) dX10_expression_164 (by decide) ?_
                      refine zs_callVrB (pc := 166) [.int 10] [] (km_is D h0 m r17 10) kv_is q1786 zc_X10 zm_recv dX10_expression_166 rfl rfl (Nat.le_of_ble_eq_true rfl) (Nat.le_of_ble_eq_true rfl) (fun b31 => ?_)
                      refine zs_if_t (pc := 169) (tgt := 181) dX10_expression_169 (by decide) ?_ ?_
                      · exact h181 ()
                      · refine zs_aload_n (pc := 172) 0 dX10_expression_172 rfl rfl ?_
                        refine zs_bipush (pc := 173) (v := 15) dX10_expression_173 (by decide) ?_
                        refine zs_callVrB (pc := 175) [.int 15] [] (km_is D h0 m r17 15) kv_is q1786 zc_X10 zm_recv dX10_expression_175 rfl rfl (Nat.le_of_ble_eq_true rfl) (Nat.le_of_ble_eq_true rfl) (fun b32 => ?_)
                        refine zs_if_f (pc := 178) (tgt := 185) dX10_expression_178 (by decide) ?_ ?_
                        · exact h181 ()
                        · refine zs_iconst (pc := 185) (v := 0) dX10_expression_185 rfl ?_
                          exact h186 0
            · unfold gm_expression_L96
              refine zs_aload_n (pc := 96) 0 dX10_expression_96 rfl rfl ?_
              refine zs_bipush (pc := 97) (v := 7) dX10_expression_97 (by decide) ?_
              refine zs_callVrB (pc := 99) [.int 7] [] (km_is D h0 m t96 7) kv_is q1786 zc_X10 zm_recv dX10_expression_99 rfl rfl (Nat.le_of_ble_eq_true rfl) (Nat.le_of_ble_eq_true rfl) (fun b12 => ?_)
              refine zs_if_f (pc := 102) (tgt := 145) dX10_expression_102 (by decide) ?_ ?_
              · refine zs_aload_n (pc := 105) 0 dX10_expression_105 rfl rfl ?_
                refine zm_geti (pc := 106) 12 (by decide) rfl q1545 dX10_expression_106 ?_
                refine zs_iload_n (pc := 109) 1 dX10_expression_109 rfl rfl ?_
                refine zs_icmp_le (pc := 110) (tgt := 145) dX10_expression_110 (by decide) ?_ ?_
                · refine zs_aload_n (pc := 113) 0 dX10_expression_113 rfl rfl ?_
                  refine zs_iconst (pc := 114) (v := 0) dX10_expression_114 rfl ?_
                  refine zs_callVv (pc := 115) [.int 0] [] (km_comesOut D h0 m t96 0) kv_comesOut q1850 zc_X10 zm_recv dX10_expression_115 rfl rfl (Nat.le_of_ble_eq_true rfl) (Nat.le_of_ble_eq_true rfl) (fun M13 => ?_)
                  refine zs_aload_n (pc := 118) 0 dX10_expression_118 rfl rfl ?_
                  refine zs_dup (pc := 119) dX10_expression_119 rfl ?_
                  refine zm_geti (pc := 120) 43 (by decide) rfl q1576 dX10_expression_120 ?_
                  refine zs_iconst (pc := 123) (v := 1) dX10_expression_123 rfl ?_
                  refine zs_isub (pc := 124) dX10_expression_124 ?_
                  refine zm_puti (pc := 125) 43 (by decide) rfl q1576 rfl rfl rfl dX10_expression_125 ?_
                  refine zs_nmM (fun M14 => ?_)
                  refine zs_aload_n (pc := 128) 0 dX10_expression_128 rfl rfl ?_
                  refine zs_dup (pc := 129) dX10_expression_129 rfl ?_
                  refine zm_geti (pc := 130) 12 (by decide) rfl q1545 dX10_expression_130 ?_
                  refine zs_iconst (pc := 133) (v := 1) dX10_expression_133 rfl ?_
                  refine zs_isub (pc := 134) dX10_expression_134 ?_
                  refine zm_puti (pc := 135) 12 (by decide) rfl q1545 rfl rfl rfl dX10_expression_135 ?_
                  refine zs_nmM (fun M15 => ?_)
                  refine zs_aload_n (pc := 138) 0 dX10_expression_138 rfl rfl ?_
                  refine zs_callVv (pc := 139) [] [] (km_goesOn D h0 m M15) kv_goesOn q1802 zc_X10 zm_recv dX10_expression_139 rfl rfl (Nat.le_of_ble_eq_true rfl) (Nat.le_of_ble_eq_true rfl) (fun M16 => ?_)
                  refine zs_goto (pc := 142) (tgt := 96) dX10_expression_142 (by decide) ?_
                  exact hL96 M16
                · exact hE96 t96
              · exact hE96 t96
        · unfold gm_expression_L23
          refine zs_aload_n (pc := 23) 0 dX10_expression_23 rfl rfl ?_
          refine zs_bipush (pc := 24) (v := 6) dX10_expression_24 (by decide) ?_
          refine zs_callVrB (pc := 26) [.int 6] [] (km_is D h0 m t23 6) kv_is q1786 zc_X10 zm_recv dX10_expression_26 rfl rfl (Nat.le_of_ble_eq_true rfl) (Nat.le_of_ble_eq_true rfl) (fun b3 => ?_)
          refine zs_if_f (pc := 29) (tgt := 84) dX10_expression_29 (by decide) ?_ ?_
          · refine zs_aload_n (pc := 32) 0 dX10_expression_32 rfl rfl ?_
            refine zm_geti (pc := 33) 12 (by decide) rfl q1545 dX10_expression_33 ?_
            refine zs_bipush (pc := 36) (v := 6) dX10_expression_36 (by decide) ?_
            refine zs_join (pc := 38) (fun (p4 : zm_S) => p4) 46 (fun (p4 : zm_S) => [(0, .ref m), (1, .int x2)]) (fun (p4 : zm_S) => []) (fun p4 => ?_) (fun h46 => ?_)
            · refine zs_aload_n (pc := 46) 0 dX10_expression_46 rfl rfl ?_
              refine zs_dup (pc := 47) dX10_expression_47 rfl ?_
              refine zm_geti (pc := 48) 12 (by decide) rfl q1545 dX10_expression_48 ?_
              refine zs_iconst (pc := 51) (v := 1) dX10_expression_51 rfl ?_
              refine zs_iadd (pc := 52) dX10_expression_52 ?_
              refine zm_puti (pc := 53) 12 (by decide) rfl q1545 rfl rfl rfl dX10_expression_53 ?_
              refine zs_nmM (fun M5 => ?_)
              refine zs_aload_n (pc := 56) 0 dX10_expression_56 rfl rfl ?_
              refine zs_callVv (pc := 57) [] [] (km_goesOn D h0 m M5) kv_goesOn q1802 zc_X10 zm_recv dX10_expression_57 rfl rfl (Nat.le_of_ble_eq_true rfl) (Nat.le_of_ble_eq_true rfl) (fun M6 => ?_)
              refine zs_aload_n (pc := 60) 0 dX10_expression_60 rfl rfl ?_
              refine zm_geta (pc := 61) 42 26 (by decide) rfl q1575 dX10_expression_61 ?_
              refine zs_aload_n (pc := 64) 0 dX10_expression_64 rfl rfl ?_
              refine zm_geti (pc := 65) 43 (by decide) rfl q1576 dX10_expression_65 ?_
              refine zs_bipush (pc := 68) (v := 6) dX10_expression_68 (by decide) ?_
              refine zm_iast (pc := 70) 42 26 zm_p42 dX10_expression_70 (fun M7 => ?_)
              refine zs_aload_n (pc := 71) 0 dX10_expression_71 rfl rfl ?_
              refine zs_dup (pc := 72) dX10_expression_72 rfl ?_
              refine zm_geti (pc := 73) 43 (by decide) rfl q1576 dX10_expression_73 ?_
              refine zs_iconst (pc := 76) (v := 1) dX10_expression_76 rfl ?_
              refine zs_iadd (pc := 77) dX10_expression_77 ?_
              refine zm_puti (pc := 78) 43 (by decide) rfl q1576 rfl rfl rfl dX10_expression_78 ?_
              refine zs_nmM (fun M8 => ?_)
              refine zs_goto (pc := 81) (tgt := 23) dX10_expression_81 (by decide) ?_
              exact hL23 M8
            · refine zs_icmp_ne (pc := 38) (tgt := 46) dX10_expression_38 (by decide) ?_ ?_
              · refine zs_aload_n (pc := 41) 0 dX10_expression_41 rfl rfl ?_
                refine zs_iconst (pc := 42) (v := 2) dX10_expression_42 rfl ?_
                refine zs_callVv (pc := 43) [.int 2] [] (km_fail D h0 m t23 2) kv_fail q1798 zc_X10 zm_recv dX10_expression_43 rfl rfl (Nat.le_of_ble_eq_true rfl) (Nat.le_of_ble_eq_true rfl) (fun M9 => ?_)
                exact h46 M9
              · exact h46 t23
          · exact hE23 t23
      · exact zs_vret (pc := 272) dX10_expression_272 ((hR12 _).trans rfl) rfl
theorem kv_term : zs_mV RX10 yX10_term cX10_term 1 none 0 := ⟨q1856, qs84, q152, q1857, by decide, by decide +kernel⟩
def gm_term (M : zm_S) : Option (zm_S) :=
(zs_ast 260 (M.1 33) (zm_sA M 37 (M.1 33) (M.1 39))).bind fun M1 =>
(if (M1.1 13) = 0 then ((gm_expression M1).bind fun M5 =>
some M5)
else (some M1)).bind fun (p2 : zm_S) =>
(zs_ast 260 (p2.1 33) (zm_sA p2 38 (p2.1 33) (p2.1 39))).bind fun M3 =>
(some (zm_sF M3 33 ((M3.1 33) + 1))).bind fun M4 =>
some M4
set_option maxHeartbeats 4000000 in
theorem km_term (D : zs_D) (h0 : zs_AH) (m : Nat) (M : zm_S) : zs_Con D (zm_R h0 m) zm_bd zs_eV yX10_term cX10_term 1 none 4 [.ref m] M ((gm_term M).map fun x => ((), x)) := by
  unfold gm_term
  refine zs_conV (own := RX10) (nm := "term") pl_X10 rfl rfl (Nat.le_of_ble_eq_true rfl) ?_
  refine zs_lv (lv' := [(0, .ref m)]) rfl ?_
  refine zs_aload_n (pc := 0) 0 dX10_term_0 rfl rfl ?_
  refine zm_geta (pc := 1) 37 22 (by decide) rfl q1570 dX10_term_1 ?_
  refine zs_aload_n (pc := 4) 0 dX10_term_4 rfl rfl ?_
  refine zm_geti (pc := 5) 33 (by decide) rfl q1566 dX10_term_5 ?_
  refine zs_aload_n (pc := 8) 0 dX10_term_8 rfl rfl ?_
  refine zm_geti (pc := 9) 39 (by decide) rfl q1572 dX10_term_9 ?_
  refine zm_iast (pc := 12) 37 22 zm_p37 dX10_term_12 (fun M1 => ?_)
  refine zs_aload_n (pc := 13) 0 dX10_term_13 rfl rfl ?_
  refine zm_geti (pc := 14) 13 (by decide) rfl q1546 dX10_term_14 ?_
  refine zs_join (pc := 17) (fun (p2 : zm_S) => p2) 24 (fun (p2 : zm_S) => [(0, .ref m)]) (fun (p2 : zm_S) => []) (fun p2 => ?_) (fun h24 => ?_)
  · refine zs_aload_n (pc := 24) 0 dX10_term_24 rfl rfl ?_
    refine zm_geta (pc := 25) 38 23 (by decide) rfl q1571 dX10_term_25 ?_
    refine zs_aload_n (pc := 28) 0 dX10_term_28 rfl rfl ?_
    refine zm_geti (pc := 29) 33 (by decide) rfl q1566 dX10_term_29 ?_
    refine zs_aload_n (pc := 32) 0 dX10_term_32 rfl rfl ?_
    refine zm_geti (pc := 33) 39 (by decide) rfl q1572 dX10_term_33 ?_
    refine zm_iast (pc := 36) 38 23 zm_p38 dX10_term_36 (fun M3 => ?_)
    refine zs_aload_n (pc := 37) 0 dX10_term_37 rfl rfl ?_
    refine zs_dup (pc := 38) dX10_term_38 rfl ?_
    refine zm_geti (pc := 39) 33 (by decide) rfl q1566 dX10_term_39 ?_
    refine zs_iconst (pc := 42) (v := 1) dX10_term_42 rfl ?_
    refine zs_iadd (pc := 43) dX10_term_43 ?_
    refine zm_puti (pc := 44) 33 (by decide) rfl q1566 rfl rfl rfl dX10_term_44 ?_
    refine zs_nmM (fun M4 => ?_)
    exact zs_vret (pc := 47) dX10_term_47 rfl rfl
  · refine zs_if_ne (pc := 17) (tgt := 24) dX10_term_17 (by decide) ?_ ?_
    · refine zs_aload_n (pc := 20) 0 dX10_term_20 rfl rfl ?_
      refine zs_callVv (pc := 21) [] [] (km_expression D h0 m M1) kv_expression q1838 zc_X10 zm_recv dX10_term_21 rfl rfl (Nat.le_of_ble_eq_true rfl) (Nat.le_of_ble_eq_true rfl) (fun M5 => ?_)
      exact h24 M5
    · exact h24 M1
theorem kv_tellLaw : zs_mV RX10 yX10_tellLaw cX10_tellLaw 4 none 1 := ⟨q1836, qs79, q152, q1837, by decide, by decide +kernel⟩
def gm_tellLaw_L12 : (Int32 × zm_S) → Option ((Int32 × zm_S) ⊕ ((zm_S) ⊕ (zm_S))) := fun t12 =>
if (t12.2.1 13) = 0 then ((gm_is t12.2 30).bind fun b3 =>
if b3 = true then ((if t12.1 = 4 then ((gm_fail t12.2 2).bind fun M16 =>
some M16)
else (some t12.2)).bind fun (p4 : zm_S) =>
if 0 < (p4.1 13) then (some (Sum.inr (Sum.inr p4)))
else ((gm_goesOn p4).bind fun M5 =>
(zs_ast 260 (M5.1 33) (zm_sA M5 34 (M5.1 33) (vp_nar .boolean 1))).bind fun M6 =>
(zs_ast 260 (M6.1 33) (zm_sA M6 35 (M6.1 33) (M6.1 39))).bind fun M7 =>
(gm_expression M7).bind fun M8 =>
(gm_must M8 13).bind fun M9 =>
(zs_ast 260 (M9.1 33) (zm_sA M9 36 (M9.1 33) (M9.1 39))).bind fun M10 =>
(if (M10.1 13) = 0 then ((gm_expression M10).bind fun M15 =>
some M15)
else (some M10)).bind fun (p11 : zm_S) =>
(gm_must p11 31).bind fun M12 =>
(gm_term M12).bind fun M13 =>
(gm_must M13 32).bind fun M14 =>
some (Sum.inl ((t12.1 + 1), M14))))
else (some (Sum.inr (Sum.inl t12.2))))
else (some (Sum.inr (Sum.inl t12.2)))
def gm_tellLaw (M : zm_S) (a1 : Int32) : Option (zm_S) :=
(gm_must M 5).bind fun M1 =>
(some (M1.1 33)).bind fun x2 =>
(zs_loop 5000 gm_tellLaw_L12 (0, M1)).bind (Sum.elim (fun (r17 : zm_S) =>
(zs_ast 260 (r17.1 33) (zm_sA r17 34 (r17.1 33) (vp_nar .boolean 0))).bind fun M18 =>
(gm_term M18).bind fun M19 =>
(gm_must M19 4).bind fun M20 =>
if 0 < (M20.1 13) then (some M20)
else ((zs_ast 8 ((4 * (M20.1 19)) + a1) (zm_sA M20 31 ((4 * (M20.1 19)) + a1) x2)).bind fun M21 =>
(zs_ast 8 ((4 * (M21.1 19)) + a1) (zm_sA M21 32 ((4 * (M21.1 19)) + a1) (M21.1 33))).bind fun M22 =>
some M22))
 (fun z => some z))
set_option maxHeartbeats 4000000 in
theorem km_tellLaw (D : zs_D) (h0 : zs_AH) (m : Nat) (M : zm_S) (a1 : Int32) : zs_Con D (zm_R h0 m) zm_bd zs_eV yX10_tellLaw cX10_tellLaw 4 none 5 [.ref m, .int a1] M ((gm_tellLaw M a1).map fun x => ((), x)) := by
  unfold gm_tellLaw
  refine zs_conV (own := RX10) (nm := "tellLaw") pl_X10 rfl rfl (Nat.le_of_ble_eq_true rfl) ?_
  refine zs_lv (lv' := [(0, .ref m), (1, .int a1)]) rfl ?_
  refine zs_aload_n (pc := 0) 0 dX10_tellLaw_0 rfl rfl ?_
  refine zs_iconst (pc := 1) (v := 5) dX10_tellLaw_1 rfl ?_
  refine zs_callVv (pc := 2) [.int 5] [] (km_must D h0 m M 5) kv_must q1810 zc_X10 zm_recv dX10_tellLaw_2 rfl rfl (Nat.le_of_ble_eq_true rfl) (Nat.le_of_ble_eq_true rfl) (fun M1 => ?_)
  refine zs_aload_n (pc := 5) 0 dX10_tellLaw_5 rfl rfl ?_
  refine zm_geti (pc := 6) 33 (by decide) rfl q1566 dX10_tellLaw_6 ?_
  refine zs_nm (fun x2 => ?_)
  refine zs_istore_n (pc := 9) (lv' := [(0, .ref m), (1, .int a1), (2, .int x2)]) [1, 2, 0] dX10_tellLaw_9 rfl (by decide) rfl ?_
  refine zs_iconst (pc := 10) (v := 0) dX10_tellLaw_10 rfl ?_
  refine zs_istore_n (pc := 11) (lv' := [(0, .ref m), (1, .int a1), (2, .int x2), (3, .int 0)]) [1, 2, 3, 0] dX10_tellLaw_11 rfl (by decide) rfl ?_
  refine zs_whileR (pc := 12) (fun (t12 : Int32 × zm_S) => t12.2) (fun (t12 : Int32 × zm_S) => [(0, .ref m), (1, .int a1), (2, .int x2), (3, .int t12.1)]) 5000 (0, M1) (fun (r17 : zm_S) => r17) 129 (fun (r17 : zm_S) => [(0, .ref m), (1, .int a1), (2, .int x2)]) [] (fun r17 => ?_) (fun X12 hL12 hE12 hR12 t12 => ?_)
  · refine zs_aload_n (pc := 129) 0 dX10_tellLaw_129 rfl rfl ?_
    refine zm_geta (pc := 130) 34 19 (by decide) rfl q1567 dX10_tellLaw_130 ?_
    refine zs_aload_n (pc := 133) 0 dX10_tellLaw_133 rfl rfl ?_
    refine zm_geti (pc := 134) 33 (by decide) rfl q1566 dX10_tellLaw_134 ?_
    refine zs_iconst (pc := 137) (v := 0) dX10_tellLaw_137 rfl ?_
    refine zm_zast (pc := 138) 34 19 zm_p34 dX10_tellLaw_138 (fun M18 => ?_)
    refine zs_aload_n (pc := 139) 0 dX10_tellLaw_139 rfl rfl ?_
    refine zs_callVv (pc := 140) [] [] (km_term D h0 m M18) kv_term q1854 zc_X10 zm_recv dX10_tellLaw_140 rfl rfl (Nat.le_of_ble_eq_true rfl) (Nat.le_of_ble_eq_true rfl) (fun M19 => ?_)
    refine zs_aload_n (pc := 143) 0 dX10_tellLaw_143 rfl rfl ?_
    refine zs_iconst (pc := 144) (v := 4) dX10_tellLaw_144 rfl ?_
    refine zs_callVv (pc := 145) [.int 4] [] (km_must D h0 m M19 4) kv_must q1810 zc_X10 zm_recv dX10_tellLaw_145 rfl rfl (Nat.le_of_ble_eq_true rfl) (Nat.le_of_ble_eq_true rfl) (fun M20 => ?_)
    refine zs_aload_n (pc := 148) 0 dX10_tellLaw_148 rfl rfl ?_
    refine zm_geti (pc := 149) 13 (by decide) rfl q1546 dX10_tellLaw_149 ?_
    refine zs_if_le (pc := 152) (tgt := 156) dX10_tellLaw_152 (by decide) ?_ ?_
    · exact zs_vret (pc := 155) dX10_tellLaw_155 rfl rfl
    · refine zs_aload_n (pc := 156) 0 dX10_tellLaw_156 rfl rfl ?_
      refine zm_geta (pc := 157) 31 17 (by decide) rfl q1564 dX10_tellLaw_157 ?_
      refine zs_iconst (pc := 160) (v := 4) dX10_tellLaw_160 rfl ?_
      refine zs_aload_n (pc := 161) 0 dX10_tellLaw_161 rfl rfl ?_
      refine zm_geti (pc := 162) 19 (by decide) rfl q1552 dX10_tellLaw_162 ?_
      refine zs_imul (pc := 165) dX10_tellLaw_165 ?_
      refine zs_iload_n (pc := 166) 1 dX10_tellLaw_166 rfl rfl ?_
      refine zs_iadd (pc := 167) dX10_tellLaw_167 ?_
      refine zs_iload_n (pc := 168) 2 dX10_tellLaw_168 rfl rfl ?_
      refine zm_iast (pc := 169) 31 17 zm_p31 dX10_tellLaw_169 (fun M21 => ?_)
      refine zs_aload_n (pc := 170) 0 dX10_tellLaw_170 rfl rfl ?_
      refine zm_geta (pc := 171) 32 18 (by decide) rfl q1565 dX10_tellLaw_171 ?_
      refine zs_iconst (pc := 174) (v := 4) dX10_tellLaw_174 rfl ?_
      refine zs_aload_n (pc := 175) 0 dX10_tellLaw_175 rfl rfl ?_
      refine zm_geti (pc := 176) 19 (by decide) rfl q1552 dX10_tellLaw_176 ?_
      refine zs_imul (pc := 179) dX10_tellLaw_179 ?_
      refine zs_iload_n (pc := 180) 1 dX10_tellLaw_180 rfl rfl ?_
      refine zs_iadd (pc := 181) dX10_tellLaw_181 ?_
      refine zs_aload_n (pc := 182) 0 dX10_tellLaw_182 rfl rfl ?_
      refine zm_geti (pc := 183) 33 (by decide) rfl q1566 dX10_tellLaw_183 ?_
      refine zm_iast (pc := 186) 32 18 zm_p32 dX10_tellLaw_186 (fun M22 => ?_)
      exact zs_vret (pc := 187) dX10_tellLaw_187 rfl rfl
  · unfold gm_tellLaw_L12
    refine zs_aload_n (pc := 12) 0 dX10_tellLaw_12 rfl rfl ?_
    refine zm_geti (pc := 13) 13 (by decide) rfl q1546 dX10_tellLaw_13 ?_
    refine zs_if_ne (pc := 16) (tgt := 129) dX10_tellLaw_16 (by decide) ?_ ?_
    · refine zs_aload_n (pc := 19) 0 dX10_tellLaw_19 rfl rfl ?_
      refine zs_bipush (pc := 20) (v := 30) dX10_tellLaw_20 (by decide) ?_
      refine zs_callVrB (pc := 22) [.int 30] [] (km_is D h0 m t12.2 30) kv_is q1786 zc_X10 zm_recv dX10_tellLaw_22 rfl rfl (Nat.le_of_ble_eq_true rfl) (Nat.le_of_ble_eq_true rfl) (fun b3 => ?_)
      refine zs_if_f (pc := 25) (tgt := 129) dX10_tellLaw_25 (by decide) ?_ ?_
      · refine zs_iload_n (pc := 28) 3 dX10_tellLaw_28 rfl rfl ?_
        refine zs_iconst (pc := 29) (v := 4) dX10_tellLaw_29 rfl ?_
        refine zs_join (pc := 30) (fun (p4 : zm_S) => p4) 38 (fun (p4 : zm_S) => [(0, .ref m), (1, .int a1), (2, .int x2), (3, .int t12.1)]) (fun (p4 : zm_S) => []) (fun p4 => ?_) (fun h38 => ?_)
        · refine zs_aload_n (pc := 38) 0 dX10_tellLaw_38 rfl rfl ?_
          refine zm_geti (pc := 39) 13 (by decide) rfl q1546 dX10_tellLaw_39 ?_
          refine zs_if_le (pc := 42) (tgt := 46) dX10_tellLaw_42 (by decide) ?_ ?_
          · exact zs_vret (pc := 45) dX10_tellLaw_45 ((hR12 _).trans rfl) rfl
          · refine zs_iinc (pc := 46) (lv' := [(0, .ref m), (1, .int a1), (2, .int x2), (3, .int (t12.1 + 1))]) 3 [1, 2, 3, 0] dX10_tellLaw_46 rfl rfl (by decide) rfl ?_
            refine zs_aload_n (pc := 49) 0 dX10_tellLaw_49 rfl rfl ?_
            refine zs_callVv (pc := 50) [] [] (km_goesOn D h0 m p4) kv_goesOn q1802 zc_X10 zm_recv dX10_tellLaw_50 rfl rfl (Nat.le_of_ble_eq_true rfl) (Nat.le_of_ble_eq_true rfl) (fun M5 => ?_)
            refine zs_aload_n (pc := 53) 0 dX10_tellLaw_53 rfl rfl ?_
            refine zm_geta (pc := 54) 34 19 (by decide) rfl q1567 dX10_tellLaw_54 ?_
            refine zs_aload_n (pc := 57) 0 dX10_tellLaw_57 rfl rfl ?_
            refine zm_geti (pc := 58) 33 (by decide) rfl q1566 dX10_tellLaw_58 ?_
            refine zs_iconst (pc := 61) (v := 1) dX10_tellLaw_61 rfl ?_
            refine zm_zast (pc := 62) 34 19 zm_p34 dX10_tellLaw_62 (fun M6 => ?_)
            refine zs_aload_n (pc := 63) 0 dX10_tellLaw_63 rfl rfl ?_
            refine zm_geta (pc := 64) 35 20 (by decide) rfl q1568 dX10_tellLaw_64 ?_
            refine zs_aload_n (pc := 67) 0 dX10_tellLaw_67 rfl rfl ?_
            refine zm_geti (pc := 68) 33 (by decide) rfl q1566 dX10_tellLaw_68 ?_
            refine zs_aload_n (pc := 71) 0 dX10_tellLaw_71 rfl rfl ?_
            refine zm_geti (pc := 72) 39 (by decide) rfl q1572 dX10_tellLaw_72 ?_
            refine zm_iast (pc := 75) 35 20 zm_p35 dX10_tellLaw_75 (fun M7 => ?_)
            refine zs_aload_n (pc := 76) 0 dX10_tellLaw_76 rfl rfl ?_
            refine zs_callVv (pc := 77) [] [] (km_expression D h0 m M7) kv_expression q1838 zc_X10 zm_recv dX10_tellLaw_77 rfl rfl (Nat.le_of_ble_eq_true rfl) (Nat.le_of_ble_eq_true rfl) (fun M8 => ?_)
            refine zs_aload_n (pc := 80) 0 dX10_tellLaw_80 rfl rfl ?_
            refine zs_bipush (pc := 81) (v := 13) dX10_tellLaw_81 (by decide) ?_
            refine zs_callVv (pc := 83) [.int 13] [] (km_must D h0 m M8 13) kv_must q1810 zc_X10 zm_recv dX10_tellLaw_83 rfl rfl (Nat.le_of_ble_eq_true rfl) (Nat.le_of_ble_eq_true rfl) (fun M9 => ?_)
            refine zs_aload_n (pc := 86) 0 dX10_tellLaw_86 rfl rfl ?_
            refine zm_geta (pc := 87) 36 21 (by decide) rfl q1569 dX10_tellLaw_87 ?_
            refine zs_aload_n (pc := 90) 0 dX10_tellLaw_90 rfl rfl ?_
            refine zm_geti (pc := 91) 33 (by decide) rfl q1566 dX10_tellLaw_91 ?_
            refine zs_aload_n (pc := 94) 0 dX10_tellLaw_94 rfl rfl ?_
            refine zm_geti (pc := 95) 39 (by decide) rfl q1572 dX10_tellLaw_95 ?_
            refine zm_iast (pc := 98) 36 21 zm_p36 dX10_tellLaw_98 (fun M10 => ?_)
            refine zs_aload_n (pc := 99) 0 dX10_tellLaw_99 rfl rfl ?_
            refine zm_geti (pc := 100) 13 (by decide) rfl q1546 dX10_tellLaw_100 ?_
            refine zs_join (pc := 103) (fun (p11 : zm_S) => p11) 110 (fun (p11 : zm_S) => [(0, .ref m), (1, .int a1), (2, .int x2), (3, .int (t12.1 + 1))]) (fun (p11 : zm_S) => []) (fun p11 => ?_) (fun h110 => ?_)
            · refine zs_aload_n (pc := 110) 0 dX10_tellLaw_110 rfl rfl ?_
              refine zs_bipush (pc := 111) (v := 31) dX10_tellLaw_111 (by decide) ?_
              refine zs_callVv (pc := 113) [.int 31] [] (km_must D h0 m p11 31) kv_must q1810 zc_X10 zm_recv dX10_tellLaw_113 rfl rfl (Nat.le_of_ble_eq_true rfl) (Nat.le_of_ble_eq_true rfl) (fun M12 => ?_)
              refine zs_aload_n (pc := 116) 0 dX10_tellLaw_116 rfl rfl ?_
              refine zs_callVv (pc := 117) [] [] (km_term D h0 m M12) kv_term q1854 zc_X10 zm_recv dX10_tellLaw_117 rfl rfl (Nat.le_of_ble_eq_true rfl) (Nat.le_of_ble_eq_true rfl) (fun M13 => ?_)
              refine zs_aload_n (pc := 120) 0 dX10_tellLaw_120 rfl rfl ?_
              refine zs_bipush (pc := 121) (v := 32) dX10_tellLaw_121 (by decide) ?_
              refine zs_callVv (pc := 123) [.int 32] [] (km_must D h0 m M13 32) kv_must q1810 zc_X10 zm_recv dX10_tellLaw_123 rfl rfl (Nat.le_of_ble_eq_true rfl) (Nat.le_of_ble_eq_true rfl) (fun M14 => ?_)
              refine zs_goto (pc := 126) (tgt := 12) dX10_tellLaw_126 (by decide) ?_
              exact hL12 ((t12.1 + 1), M14)
            · refine zs_if_ne (pc := 103) (tgt := 110) dX10_tellLaw_103 (by decide) ?_ ?_
              · refine zs_aload_n (pc := 106) 0 dX10_tellLaw_106 rfl rfl ?_
                refine zs_callVv (pc := 107) [] [] (km_expression D h0 m M10) kv_expression q1838 zc_X10 zm_recv dX10_tellLaw_107 rfl rfl (Nat.le_of_ble_eq_true rfl) (Nat.le_of_ble_eq_true rfl) (fun M15 => ?_)
                exact h110 M15
              · exact h110 M10
        · refine zs_icmp_ne (pc := 30) (tgt := 38) dX10_tellLaw_30 (by decide) ?_ ?_
          · refine zs_aload_n (pc := 33) 0 dX10_tellLaw_33 rfl rfl ?_
            refine zs_iconst (pc := 34) (v := 2) dX10_tellLaw_34 rfl ?_
            refine zs_callVv (pc := 35) [.int 2] [] (km_fail D h0 m t12.2 2) kv_fail q1798 zc_X10 zm_recv dX10_tellLaw_35 rfl rfl (Nat.le_of_ble_eq_true rfl) (Nat.le_of_ble_eq_true rfl) (fun M16 => ?_)
            exact h38 M16
          · exact h38 t12.2
      · refine zs_sub (lv' := [(0, .ref m), (1, .int a1), (2, .int x2)]) [0, 1, 2] rfl ?_
        exact hE12 t12.2
    · refine zs_sub (lv' := [(0, .ref m), (1, .int a1), (2, .int x2)]) [0, 1, 2] rfl ?_
      exact hE12 t12.2
theorem kv_tellOne : zs_mV RX10 yX10_tellOne cX10_tellOne 2 none 0 := ⟨q1792, qs68, q152, q1793, by decide, by decide +kernel⟩
def gm_tellOne (M : zm_S) : Option (zm_S) :=
(zs_ald 403 (M.2.1 5) (M.1 11)).bind fun x1 =>
if x1 = 20 then ((zs_ald 2 (M.2.1 22) (M.1 19)).bind fun x2 =>
(gm_roomFor M x2 6).bind fun M3 =>
if (M3.1 13) = 0 then ((gm_tellHouse M3).bind fun M4 =>
some M4)
else (some M3))
else if x1 = 21 then ((zs_ald 2 (M.2.1 25) (M.1 19)).bind fun x5 =>
(gm_roomFor M x5 20).bind fun M6 =>
if (M6.1 13) = 0 then ((gm_tellLikes M6).bind fun M7 =>
some M7)
else (some M6))
else if x1 = 22 then ((gm_toldInt M 1 99).bind fun p8 =>
(zs_ast 2 (M.1 19) (zm_sA p8.2 27 (M.1 19) p8.1)).bind fun M9 =>
some M9)
else if x1 = 23 then ((gm_toldInt M 0 99).bind fun p10 =>
(zs_ast 2 (M.1 19) (zm_sA p10.2 28 (M.1 19) p10.1)).bind fun M11 =>
some M11)
else if x1 = 28 then ((gm_toldInt M 0 100).bind fun p12 =>
(zs_ast 2 (M.1 19) (zm_sA p12.2 29 (M.1 19) p12.1)).bind fun M13 =>
some M13)
else if x1 = 29 then ((gm_toldInt M 0 9999).bind fun p14 =>
(zs_ast 2 (M.1 19) (zm_sA p14.2 30 (M.1 19) p14.1)).bind fun M15 =>
some M15)
else ((zs_ald 403 (M.2.1 5) (M.1 11)).bind fun x16 =>
(some (x16 - 24)).bind fun x17 =>
(zs_let (fun (p21 : Unit) => (gm_fail M 1).bind fun M22 =>
some M22) fun J230 =>
if x17 < 0 then (J230 ())
else ((zs_ald 403 (M.2.1 5) (M.1 11)).bind fun x23 =>
if 27 < x23 then (J230 ())
else (some M))).bind fun (p18 : zm_S) =>
if 0 < (p18.1 13) then (some p18)
else ((gm_goesOn p18).bind fun M19 =>
(gm_tellLaw M19 x17).bind fun M20 =>
some M20))
set_option maxHeartbeats 4000000 in
theorem km_tellOne (D : zs_D) (h0 : zs_AH) (m : Nat) (M : zm_S) : zs_Con D (zm_R h0 m) zm_bd zs_eV yX10_tellOne cX10_tellOne 2 none 6 [.ref m] M ((gm_tellOne M).map fun x => ((), x)) := by
  unfold gm_tellOne
  refine zs_conV (own := RX10) (nm := "tellOne") pl_X10 rfl rfl (Nat.le_of_ble_eq_true rfl) ?_
  refine zs_lv (lv' := [(0, .ref m)]) rfl ?_
  refine zs_aload_n (pc := 0) 0 dX10_tellOne_0 rfl rfl ?_
  refine zm_geta (pc := 1) 5 2 (by decide) rfl q1538 dX10_tellOne_1 ?_
  refine zs_aload_n (pc := 4) 0 dX10_tellOne_4 rfl rfl ?_
  refine zm_geti (pc := 5) 11 (by decide) rfl q1544 dX10_tellOne_5 ?_
  refine zm_iald (pc := 8) 5 2 zm_p5 dX10_tellOne_8 (fun x1 => ?_)
  refine zs_tsw (pc := 9) [(20, 64), (21, 93), (22, 122), (23, 141), (28, 160), (29, 179)] 199 dX10_tellOne_9 (by decide +kernel) ?_
  refine zs_case ?_ ?_
  · refine zs_aload_n (pc := 64) 0 dX10_tellOne_64 rfl rfl ?_
    refine zs_aload_n (pc := 65) 0 dX10_tellOne_65 rfl rfl ?_
    refine zm_geta (pc := 66) 22 8 (by decide) rfl q1555 dX10_tellOne_66 ?_
    refine zs_aload_n (pc := 69) 0 dX10_tellOne_69 rfl rfl ?_
    refine zm_geti (pc := 70) 19 (by decide) rfl q1552 dX10_tellOne_70 ?_
    refine zm_iald (pc := 73) 22 8 zm_p22 dX10_tellOne_73 (fun x2 => ?_)
    refine zs_bipush (pc := 74) (v := 6) dX10_tellOne_74 (by decide) ?_
    refine zs_callVv (pc := 76) [.int x2, .int 6] [] (km_roomFor D h0 m M x2 6) kv_roomFor q1794 zc_X10 zm_recv dX10_tellOne_76 rfl rfl (Nat.le_of_ble_eq_true rfl) (Nat.le_of_ble_eq_true rfl) (fun M3 => ?_)
    refine zs_aload_n (pc := 79) 0 dX10_tellOne_79 rfl rfl ?_
    refine zm_geti (pc := 80) 13 (by decide) rfl q1546 dX10_tellOne_80 ?_
    refine zs_if_ne (pc := 83) (tgt := 252) dX10_tellOne_83 (by decide) ?_ ?_
    · refine zs_aload_n (pc := 86) 0 dX10_tellOne_86 rfl rfl ?_
      refine zs_callVv (pc := 87) [] [] (km_tellHouse D h0 m M3) kv_tellHouse q1806 zc_X10 zm_recv dX10_tellOne_87 rfl rfl (Nat.le_of_ble_eq_true rfl) (Nat.le_of_ble_eq_true rfl) (fun M4 => ?_)
      refine zs_goto (pc := 90) (tgt := 252) dX10_tellOne_90 (by decide) ?_
      exact zs_vret (pc := 252) dX10_tellOne_252 rfl rfl
    · exact zs_vret (pc := 252) dX10_tellOne_252 rfl rfl
  refine zs_case ?_ ?_
  · refine zs_aload_n (pc := 93) 0 dX10_tellOne_93 rfl rfl ?_
    refine zs_aload_n (pc := 94) 0 dX10_tellOne_94 rfl rfl ?_
    refine zm_geta (pc := 95) 25 11 (by decide) rfl q1558 dX10_tellOne_95 ?_
    refine zs_aload_n (pc := 98) 0 dX10_tellOne_98 rfl rfl ?_
    refine zm_geti (pc := 99) 19 (by decide) rfl q1552 dX10_tellOne_99 ?_
    refine zm_iald (pc := 102) 25 11 zm_p25 dX10_tellOne_102 (fun x5 => ?_)
    refine zs_bipush (pc := 103) (v := 20) dX10_tellOne_103 (by decide) ?_
    refine zs_callVv (pc := 105) [.int x5, .int 20] [] (km_roomFor D h0 m M x5 20) kv_roomFor q1794 zc_X10 zm_recv dX10_tellOne_105 rfl rfl (Nat.le_of_ble_eq_true rfl) (Nat.le_of_ble_eq_true rfl) (fun M6 => ?_)
    refine zs_aload_n (pc := 108) 0 dX10_tellOne_108 rfl rfl ?_
    refine zm_geti (pc := 109) 13 (by decide) rfl q1546 dX10_tellOne_109 ?_
    refine zs_if_ne (pc := 112) (tgt := 252) dX10_tellOne_112 (by decide) ?_ ?_
    · refine zs_aload_n (pc := 115) 0 dX10_tellOne_115 rfl rfl ?_
      refine zs_callVv (pc := 116) [] [] (km_tellLikes D h0 m M6) kv_tellLikes q1822 zc_X10 zm_recv dX10_tellOne_116 rfl rfl (Nat.le_of_ble_eq_true rfl) (Nat.le_of_ble_eq_true rfl) (fun M7 => ?_)
      refine zs_goto (pc := 119) (tgt := 252) dX10_tellOne_119 (by decide) ?_
      exact zs_vret (pc := 252) dX10_tellOne_252 rfl rfl
    · exact zs_vret (pc := 252) dX10_tellOne_252 rfl rfl
  refine zs_case ?_ ?_
  · refine zs_aload_n (pc := 122) 0 dX10_tellOne_122 rfl rfl ?_
    refine zm_geta (pc := 123) 27 13 (by decide) rfl q1560 dX10_tellOne_123 ?_
    refine zs_aload_n (pc := 126) 0 dX10_tellOne_126 rfl rfl ?_
    refine zm_geti (pc := 127) 19 (by decide) rfl q1552 dX10_tellOne_127 ?_
    refine zs_aload_n (pc := 130) 0 dX10_tellOne_130 rfl rfl ?_
    refine zs_iconst (pc := 131) (v := 1) dX10_tellOne_131 rfl ?_
    refine zs_bipush (pc := 132) (v := 99) dX10_tellOne_132 (by decide) ?_
    refine zs_callVwI (pc := 134) [.int 1, .int 99] [.int (M.1 19), .ref (m + (13 + 1))] (km_toldInt D h0 m M 1 99) kv_toldInt q1830 zc_X10 zm_recv dX10_tellOne_134 rfl rfl (Nat.le_of_ble_eq_true rfl) (Nat.le_of_ble_eq_true rfl) (fun p8 => ?_)
    refine zm_iast (pc := 137) 27 13 zm_p27 dX10_tellOne_137 (fun M9 => ?_)
    refine zs_goto (pc := 138) (tgt := 252) dX10_tellOne_138 (by decide) ?_
    exact zs_vret (pc := 252) dX10_tellOne_252 rfl rfl
  refine zs_case ?_ ?_
  · refine zs_aload_n (pc := 141) 0 dX10_tellOne_141 rfl rfl ?_
    refine zm_geta (pc := 142) 28 14 (by decide) rfl q1561 dX10_tellOne_142 ?_
    refine zs_aload_n (pc := 145) 0 dX10_tellOne_145 rfl rfl ?_
    refine zm_geti (pc := 146) 19 (by decide) rfl q1552 dX10_tellOne_146 ?_
    refine zs_aload_n (pc := 149) 0 dX10_tellOne_149 rfl rfl ?_
    refine zs_iconst (pc := 150) (v := 0) dX10_tellOne_150 rfl ?_
    refine zs_bipush (pc := 151) (v := 99) dX10_tellOne_151 (by decide) ?_
    refine zs_callVwI (pc := 153) [.int 0, .int 99] [.int (M.1 19), .ref (m + (14 + 1))] (km_toldInt D h0 m M 0 99) kv_toldInt q1830 zc_X10 zm_recv dX10_tellOne_153 rfl rfl (Nat.le_of_ble_eq_true rfl) (Nat.le_of_ble_eq_true rfl) (fun p10 => ?_)
    refine zm_iast (pc := 156) 28 14 zm_p28 dX10_tellOne_156 (fun M11 => ?_)
    refine zs_goto (pc := 157) (tgt := 252) dX10_tellOne_157 (by decide) ?_
    exact zs_vret (pc := 252) dX10_tellOne_252 rfl rfl
  refine zs_case ?_ ?_
  · refine zs_aload_n (pc := 160) 0 dX10_tellOne_160 rfl rfl ?_
    refine zm_geta (pc := 161) 29 15 (by decide) rfl q1562 dX10_tellOne_161 ?_
    refine zs_aload_n (pc := 164) 0 dX10_tellOne_164 rfl rfl ?_
    refine zm_geti (pc := 165) 19 (by decide) rfl q1552 dX10_tellOne_165 ?_
    refine zs_aload_n (pc := 168) 0 dX10_tellOne_168 rfl rfl ?_
    refine zs_iconst (pc := 169) (v := 0) dX10_tellOne_169 rfl ?_
    refine zs_bipush (pc := 170) (v := 100) dX10_tellOne_170 (by decide) ?_
    refine zs_callVwI (pc := 172) [.int 0, .int 100] [.int (M.1 19), .ref (m + (15 + 1))] (km_toldInt D h0 m M 0 100) kv_toldInt q1830 zc_X10 zm_recv dX10_tellOne_172 rfl rfl (Nat.le_of_ble_eq_true rfl) (Nat.le_of_ble_eq_true rfl) (fun p12 => ?_)
    refine zm_iast (pc := 175) 29 15 zm_p29 dX10_tellOne_175 (fun M13 => ?_)
    refine zs_goto (pc := 176) (tgt := 252) dX10_tellOne_176 (by decide) ?_
    exact zs_vret (pc := 252) dX10_tellOne_252 rfl rfl
  refine zs_case ?_ ?_
  · refine zs_aload_n (pc := 179) 0 dX10_tellOne_179 rfl rfl ?_
    refine zm_geta (pc := 180) 30 16 (by decide) rfl q1563 dX10_tellOne_180 ?_
    refine zs_aload_n (pc := 183) 0 dX10_tellOne_183 rfl rfl ?_
    refine zm_geti (pc := 184) 19 (by decide) rfl q1552 dX10_tellOne_184 ?_
    refine zs_aload_n (pc := 187) 0 dX10_tellOne_187 rfl rfl ?_
    refine zs_iconst (pc := 188) (v := 0) dX10_tellOne_188 rfl ?_
    refine zs_sipush (pc := 189) (v := 9999) dX10_tellOne_189 (by decide) ?_
    refine zs_callVwI (pc := 192) [.int 0, .int 9999] [.int (M.1 19), .ref (m + (16 + 1))] (km_toldInt D h0 m M 0 9999) kv_toldInt q1830 zc_X10 zm_recv dX10_tellOne_192 rfl rfl (Nat.le_of_ble_eq_true rfl) (Nat.le_of_ble_eq_true rfl) (fun p14 => ?_)
    refine zm_iast (pc := 195) 30 16 zm_p30 dX10_tellOne_195 (fun M15 => ?_)
    refine zs_goto (pc := 196) (tgt := 252) dX10_tellOne_196 (by decide) ?_
    exact zs_vret (pc := 252) dX10_tellOne_252 rfl rfl
  refine zs_dflt ?_
  refine zs_aload_n (pc := 199) 0 dX10_tellOne_199 rfl rfl ?_
  refine zm_geta (pc := 200) 5 2 (by decide) rfl q1538 dX10_tellOne_200 ?_
  refine zs_aload_n (pc := 203) 0 dX10_tellOne_203 rfl rfl ?_
  refine zm_geti (pc := 204) 11 (by decide) rfl q1544 dX10_tellOne_204 ?_
  refine zm_iald (pc := 207) 5 2 zm_p5 dX10_tellOne_207 (fun x16 => ?_)
  refine zs_bipush (pc := 208) (v := 24) dX10_tellOne_208 (by decide) ?_
  refine zs_isub (pc := 210) dX10_tellOne_210 ?_
  refine zs_nm (fun x17 => ?_)
  refine zs_istore_n (pc := 211) (lv' := [(0, .ref m), (1, .int x17)]) [1, 0] dX10_tellOne_211 rfl (by decide) rfl ?_
  refine zs_iload_n (pc := 212) 1 dX10_tellOne_212 rfl rfl ?_
  refine zs_join (pc := 213) (fun (p18 : zm_S) => p18) 235 (fun (p18 : zm_S) => [(0, .ref m), (1, .int x17)]) (fun (p18 : zm_S) => []) (fun p18 => ?_) (fun h235 => ?_)
  · refine zs_aload_n (pc := 235) 0 dX10_tellOne_235 rfl rfl ?_
    refine zm_geti (pc := 236) 13 (by decide) rfl q1546 dX10_tellOne_236 ?_
    refine zs_if_le (pc := 239) (tgt := 243) dX10_tellOne_239 (by decide) ?_ ?_
    · exact zs_vret (pc := 242) dX10_tellOne_242 rfl rfl
    · refine zs_aload_n (pc := 243) 0 dX10_tellOne_243 rfl rfl ?_
      refine zs_callVv (pc := 244) [] [] (km_goesOn D h0 m p18) kv_goesOn q1802 zc_X10 zm_recv dX10_tellOne_244 rfl rfl (Nat.le_of_ble_eq_true rfl) (Nat.le_of_ble_eq_true rfl) (fun M19 => ?_)
      refine zs_aload_n (pc := 247) 0 dX10_tellOne_247 rfl rfl ?_
      refine zs_iload_n (pc := 248) 1 dX10_tellOne_248 rfl rfl ?_
      refine zs_callVv (pc := 249) [.int x17] [] (km_tellLaw D h0 m M19 x17) kv_tellLaw q1834 zc_X10 zm_recv dX10_tellOne_249 rfl rfl (Nat.le_of_ble_eq_true rfl) (Nat.le_of_ble_eq_true rfl) (fun M20 => ?_)
      exact zs_vret (pc := 252) dX10_tellOne_252 rfl rfl
  · refine zs_letJ (pc := 213) (fun (p21 : Unit) => M) 230 (fun (p21 : Unit) => [(0, .ref m), (1, .int x17)]) (fun (p21 : Unit) => []) (fun p21 => ?_) (fun J230 h230 => ?_)
    · refine zs_aload_n (pc := 230) 0 dX10_tellOne_230 rfl rfl ?_
      refine zs_iconst (pc := 231) (v := 1) dX10_tellOne_231 rfl ?_
      refine zs_callVv (pc := 232) [.int 1] [] (km_fail D h0 m M 1) kv_fail q1798 zc_X10 zm_recv dX10_tellOne_232 rfl rfl (Nat.le_of_ble_eq_true rfl) (Nat.le_of_ble_eq_true rfl) (fun M22 => ?_)
      exact h235 M22
    · refine zs_if_lt (pc := 213) (tgt := 230) dX10_tellOne_213 (by decide) ?_ ?_
      · exact h230 ()
      · refine zs_aload_n (pc := 216) 0 dX10_tellOne_216 rfl rfl ?_
        refine zm_geta (pc := 217) 5 2 (by decide) rfl q1538 dX10_tellOne_217 ?_
        refine zs_aload_n (pc := 220) 0 dX10_tellOne_220 rfl rfl ?_
        refine zm_geti (pc := 221) 11 (by decide) rfl q1544 dX10_tellOne_221 ?_
        refine zm_iald (pc := 224) 5 2 zm_p5 dX10_tellOne_224 (fun x23 => ?_)
        refine zs_bipush (pc := 225) (v := 27) dX10_tellOne_225 (by decide) ?_
        refine zs_icmp_le (pc := 227) (tgt := 235) dX10_tellOne_227 (by decide) ?_ ?_
        · exact h230 ()
        · exact h235 M
