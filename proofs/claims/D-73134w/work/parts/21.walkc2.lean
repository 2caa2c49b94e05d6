/-! THE COMPONENT's methods, walked: what each computes (gv_ of a village, gh_), that its code computes it (kv_x.., kh_). Printed by wip/D-73134w/gen/comp.py -/
set_option maxRecDepth 100000
theorem wv_below : zs_mV RX5 yX5_below cX5_below 4 (some .int) 1 := ⟨q1257, q1258, q145, q1259, by decide, by decide +kernel⟩
def gv_below_L6 (M : cs_S) (i : Nat) : (Int32 × Int32) → Option ((Int32 × Int32) ⊕ (Int32)) := fun t6 =>
if t6.2 < (M.1 (10 + i) 5) then ((zs_ald 6 (M.2 (10 + i) 4) t6.2).bind fun x2 =>
(zs_ald 6 (M.2 (10 + i) 1) x2).bind fun x3 =>
(some (t6.1 + x3)).bind fun x4 =>
some (Sum.inl (x4, (t6.2 + 1))))
else (some (Sum.inr t6.1))
def gv_below (T : zt_T) (M : cs_S) (i : Nat) (a1 : Int32) : Option (Int32) :=
(some (a1 + 1)).bind fun x1 =>
(zs_loop 5000 (gv_below_L6 M i) (0, x1)).bind fun z => some z
set_option maxHeartbeats 4000000 in
theorem kv_xbelow (D : zs_D) (W : cs_W) (P : Nat → Bool) (h0 : zs_AH) (c : Nat) (M : cs_S) (i : Nat) (hi : i < 45) (a1 : Int32) : zs_Con D (cs_R W P h0 c) cs_bd zs_eI yX5_below cX5_below 4 (some .int) 0 [.ref (c + cs_va i), .int a1] M ((gv_below W.2.1 M i a1).map fun x => (x, M)) := by
  unfold gv_below
  refine zs_conR (own := RX5) (nm := "below") pl_X5 rfl rfl (Nat.le_of_ble_eq_true rfl) ?_
  refine zs_lv (lv' := [(0, .ref (c + cs_va i)), (1, .int a1)]) rfl ?_
  refine zs_iconst (pc := 0) (v := 0) dX5_below_0 rfl ?_
  refine zs_istore_n (pc := 1) (lv' := [(0, .ref (c + cs_va i)), (1, .int a1), (2, .int 0)]) [1, 2, 0] dX5_below_1 rfl (by decide) rfl ?_
  refine zs_iload_n (pc := 2) 1 dX5_below_2 rfl rfl ?_
  refine zs_iconst (pc := 3) (v := 1) dX5_below_3 rfl ?_
  refine zs_iadd (pc := 4) dX5_below_4 ?_
  refine zs_nm (fun x1 => ?_)
  refine zs_istore_n (pc := 5) (lv' := [(0, .ref (c + cs_va i)), (1, .int a1), (2, .int 0), (3, .int x1)]) [1, 2, 3, 0] dX5_below_5 rfl (by decide) rfl ?_
  refine zs_sub (pc := 6) (lv' := [(0, .ref (c + cs_va i)), (2, .int 0), (3, .int x1)]) [0, 2, 3] rfl ?_
  refine zs_whileX (pc := 6) (fun (t6 : Int32 × Int32) => M) (fun (t6 : Int32 × Int32) => [(0, .ref (c + cs_va i)), (2, .int t6.1), (3, .int t6.2)]) 5000 (0, x1) (fun X6 hL6 hR6 t6 => ?_)
  unfold gv_below_L6
  refine zs_iload_n (pc := 6) 2 dX5_below_6 rfl rfl ?_
  refine zs_aload_n (pc := 7) 0 dX5_below_7 rfl rfl ?_
  refine cs_geti (pc := 8) (cs_va i) (10 + i) 5 (cs_pv (by omega)) zc_X5 (cs_vcl (by omega)) (by decide) (cs_vsc (by omega) 5 true (by decide)) q449 dX5_below_8 ?_
  refine zs_icmp_ge (pc := 11) (tgt := 34) dX5_below_11 (by decide) ?_ ?_
  · refine zs_iload_n (pc := 14) 1 dX5_below_14 rfl rfl ?_
    refine zs_aload_n (pc := 15) 0 dX5_below_15 rfl rfl ?_
    refine cs_getr (pc := 16) (cs_va i) (10 + i) 1 (v := .ref (c + (cs_va i + 2))) (cs_pv (by omega)) zc_X5 (cs_vcl (by omega)) (by decide) (cs_vsc (by omega) 1 false (by decide)) (cs_vcv (by omega) 1 2 (by decide)) q441 dX5_below_16 ?_
    refine zs_aload_n (pc := 19) 0 dX5_below_19 rfl rfl ?_
    refine cs_getr (pc := 20) (cs_va i) (10 + i) 4 (v := .ref (c + (cs_va i + 5))) (cs_pv (by omega)) zc_X5 (cs_vcl (by omega)) (by decide) (cs_vsc (by omega) 4 false (by decide)) (cs_vcv (by omega) 4 5 (by decide)) q447 dX5_below_20 ?_
    refine zs_iload_n (pc := 23) 2 dX5_below_23 rfl rfl ?_
    refine cs_iald (pc := 24) (cs_va i + 5) (10 + i) 4 (cs_pva (by omega) 5 (by decide) 6 rfl) dX5_below_24 (fun x2 => ?_)
    refine cs_iald (pc := 25) (cs_va i + 2) (10 + i) 1 (cs_pva (by omega) 2 (by decide) 6 rfl) dX5_below_25 (fun x3 => ?_)
    refine zs_iadd (pc := 26) dX5_below_26 ?_
    refine zs_nm (fun x4 => ?_)
    refine zs_istore_n (pc := 27) (lv' := [(0, .ref (c + cs_va i)), (2, .int x4), (3, .int t6.2)]) [1, 0, 2] dX5_below_27 rfl (by decide) rfl ?_
    refine zs_iinc (pc := 28) (lv' := [(0, .ref (c + cs_va i)), (2, .int x4), (3, .int (t6.2 + 1))]) 2 [1, 2, 0] dX5_below_28 rfl rfl (by decide) rfl ?_
    refine zs_goto (pc := 31) (tgt := 6) dX5_below_31 (by decide) ?_
    exact hL6 (x4, (t6.2 + 1))
  · refine zs_iload_n (pc := 34) 1 dX5_below_34 rfl rfl ?_
    exact zs_iret (pc := 35) dX5_below_35 ((hR6 _).trans rfl) rfl rfl
theorem wv_breaksAt : zs_mV RX5 yX5_breaksAt cX5_breaksAt 6 (some .int) 2 := ⟨q1253, q1254, q145, q1255, by decide, by decide +kernel⟩
def gv_breaksAt_L2 (i : Nat) (T : zt_T) (a2 : Int32) : (Int32 × cs_S) → Option ((Int32 × cs_S) ⊕ ((Int32 × cs_S) ⊕ (Int32 × cs_S))) := fun t2 =>
if t2.1 < (t2.2.1 (10 + i) 5) then ((zs_ald 6 (t2.2.2 (10 + i) 4) t2.1).bind fun x1 =>
(gv_below T t2.2 i t2.1).bind fun x2 =>
(some (a2 + x2)).bind fun x3 =>
zs_let (fun (p4 : cs_S) => (zs_ald 6 (p4.2 (10 + i) 2) x1).bind fun x5 =>
if x5 < x3 then (some (Sum.inr (Sum.inl (t2.1, p4))))
else (some (Sum.inl ((t2.1 + 1), p4)))) fun J79 =>
if 0 < t2.1 then ((zs_ald 6 (t2.2.2 (10 + i) 1) x1).bind fun x6 =>
(zs_ald 6 (t2.2.2 (10 + i) 4) (t2.1 - 1)).bind fun x7 =>
(zs_ald 6 (t2.2.2 (10 + i) 4) (t2.1 - 1)).bind fun x8 =>
(zs_ix 6 x8).bind fun k9 =>
(zs_ald 6 (zt_lk T k9) x1).bind fun x10 =>
(gv_joins T t2.2 i x7 x1 x10).bind fun p11 =>
if p11.1 < (x3 + x6) then (some (Sum.inr (Sum.inr ((2 * t2.1), p11.2))))
else (J79 p11.2))
else (J79 t2.2))
else (some (Sum.inr (Sum.inr ((-1), t2.2))))
def gv_breaksAt (T : zt_T) (M : cs_S) (i : Nat) (a2 : Int32) : Option (Int32 × cs_S) :=
(zs_loop 5000 (gv_breaksAt_L2 i T a2) (0, M)).bind (Sum.elim (fun (r12 : Int32 × cs_S) =>
some (((2 * r12.1) + 1), r12.2))
 (fun z => some z))
set_option maxHeartbeats 4000000 in
theorem kv_xbreaksAt (D : zs_D) (W : cs_W) (P : Nat → Bool) (h0 : zs_AH) (c : Nat) (M : cs_S) (i : Nat) (hi : i < 45) (a2 : Int32) : zs_Con D (cs_R W P h0 c) cs_bd zs_eI yX5_breaksAt cX5_breaksAt 6 (some .int) 424 [.ref (c + cs_va i), .ref (zt_ad W.2.1 0), .int a2] M (gv_breaksAt W.2.1 M i a2) := by
  unfold gv_breaksAt
  refine zs_con (own := RX5) (nm := "breaksAt") pl_X5 rfl rfl (Nat.le_of_ble_eq_true rfl) ?_
  refine zs_lv (lv' := [(0, .ref (c + cs_va i)), (1, .ref (zt_ad W.2.1 0)), (2, .int a2)]) rfl ?_
  refine zs_iconst (pc := 0) (v := 0) dX5_breaksAt_0 rfl ?_
  refine zs_istore_n (pc := 1) (lv' := [(0, .ref (c + cs_va i)), (1, .ref (zt_ad W.2.1 0)), (2, .int a2), (3, .int 0)]) [1, 2, 3, 0] dX5_breaksAt_1 rfl (by decide) rfl ?_
  refine zs_whileR (pc := 2) (fun (t2 : Int32 × cs_S) => t2.2) (fun (t2 : Int32 × cs_S) => [(0, .ref (c + cs_va i)), (1, .ref (zt_ad W.2.1 0)), (2, .int a2), (3, .int t2.1)]) 5000 (0, M) (fun (r12 : Int32 × cs_S) => r12.2) 91 (fun (r12 : Int32 × cs_S) => [(3, .int r12.1)]) [] (fun r12 => ?_) (fun X2 hL2 hE2 hR2 t2 => ?_)
  · refine zs_iconst (pc := 91) (v := 2) dX5_breaksAt_91 rfl ?_
    refine zs_iload_n (pc := 92) 0 dX5_breaksAt_92 rfl rfl ?_
    refine zs_imul (pc := 93) dX5_breaksAt_93 ?_
    refine zs_iconst (pc := 94) (v := 1) dX5_breaksAt_94 rfl ?_
    refine zs_iadd (pc := 95) dX5_breaksAt_95 ?_
    exact zs_iret (pc := 96) dX5_breaksAt_96 rfl rfl rfl
  · unfold gv_breaksAt_L2
    refine zs_iload_n (pc := 2) 3 dX5_breaksAt_2 rfl rfl ?_
    refine zs_aload_n (pc := 3) 0 dX5_breaksAt_3 rfl rfl ?_
    refine cs_geti (pc := 4) (cs_va i) (10 + i) 5 (cs_pv (by omega)) zc_X5 (cs_vcl (by omega)) (by decide) (cs_vsc (by omega) 5 true (by decide)) q449 dX5_breaksAt_4 ?_
    refine zs_icmp_ge (pc := 7) (tgt := 103) dX5_breaksAt_7 (by decide) ?_ ?_
    · refine zs_aload_n (pc := 10) 0 dX5_breaksAt_10 rfl rfl ?_
      refine cs_getr (pc := 11) (cs_va i) (10 + i) 4 (v := .ref (c + (cs_va i + 5))) (cs_pv (by omega)) zc_X5 (cs_vcl (by omega)) (by decide) (cs_vsc (by omega) 4 false (by decide)) (cs_vcv (by omega) 4 5 (by decide)) q447 dX5_breaksAt_11 ?_
      refine zs_iload_n (pc := 14) 3 dX5_breaksAt_14 rfl rfl ?_
      refine cs_iald (pc := 15) (cs_va i + 5) (10 + i) 4 (cs_pva (by omega) 5 (by decide) 6 rfl) dX5_breaksAt_15 (fun x1 => ?_)
      refine zs_istore (pc := 16) (lv' := [(0, .ref (c + cs_va i)), (1, .ref (zt_ad W.2.1 0)), (2, .int a2), (3, .int t2.1), (4, .int x1)]) [1, 2, 3, 4, 0] dX5_breaksAt_16 (by decide) rfl ?_
      refine zs_iload_n (pc := 18) 2 dX5_breaksAt_18 rfl rfl ?_
      refine zs_aload_n (pc := 19) 0 dX5_breaksAt_19 rfl rfl ?_
      refine zs_iload_n (pc := 20) 3 dX5_breaksAt_20 rfl rfl ?_
      refine zs_callVrI (pc := 21) [.int t2.1] [.int a2] (kv_xbelow D W P h0 c t2.2 i (by omega) t2.1) wv_below q1256 zc_X5 (cs_rcvv (by omega)) dX5_breaksAt_21 rfl rfl (Nat.le_of_ble_eq_true rfl) (Nat.le_of_ble_eq_true rfl) (fun x2 => ?_)
      refine zs_iadd (pc := 24) dX5_breaksAt_24 ?_
      refine zs_nm (fun x3 => ?_)
      refine zs_istore (pc := 25) (lv' := [(0, .ref (c + cs_va i)), (1, .ref (zt_ad W.2.1 0)), (2, .int a2), (3, .int t2.1), (4, .int x1), (5, .int x3)]) [1, 2, 3, 4, 5, 0] dX5_breaksAt_25 (by decide) rfl ?_
      refine zs_iload_n (pc := 27) 3 dX5_breaksAt_27 rfl rfl ?_
      refine zs_letJ (pc := 28) (fun (p4 : cs_S) => p4) 79 (fun (p4 : cs_S) => [(0, .ref (c + cs_va i)), (1, .ref (zt_ad W.2.1 0)), (2, .int a2), (3, .int t2.1), (4, .int x1), (5, .int x3)]) (fun (p4 : cs_S) => []) (fun p4 => ?_) (fun J79 h79 => ?_)
      · refine zs_iload (pc := 79) 5 dX5_breaksAt_79 rfl ?_
        refine zs_aload_n (pc := 81) 0 dX5_breaksAt_81 rfl rfl ?_
        refine cs_getr (pc := 82) (cs_va i) (10 + i) 2 (v := .ref (c + (cs_va i + 3))) (cs_pv (by omega)) zc_X5 (cs_vcl (by omega)) (by decide) (cs_vsc (by omega) 2 false (by decide)) (cs_vcv (by omega) 2 3 (by decide)) q443 dX5_breaksAt_82 ?_
        refine zs_iload (pc := 85) 4 dX5_breaksAt_85 rfl ?_
        refine cs_iald (pc := 87) (cs_va i + 3) (10 + i) 2 (cs_pva (by omega) 3 (by decide) 6 rfl) dX5_breaksAt_87 (fun x5 => ?_)
        refine zs_icmp_le (pc := 88) (tgt := 97) dX5_breaksAt_88 (by decide) ?_ ?_
        · refine zs_sub (lv' := [(3, .int t2.1)]) [3] rfl ?_
          exact hE2 (t2.1, p4)
        · refine zs_iinc (pc := 97) (lv' := [(0, .ref (c + cs_va i)), (1, .ref (zt_ad W.2.1 0)), (2, .int a2), (3, .int (t2.1 + 1)), (4, .int x1), (5, .int x3)]) 3 [1, 2, 3, 0, 4, 5] dX5_breaksAt_97 rfl rfl (by decide) rfl ?_
          refine zs_goto (pc := 100) (tgt := 2) dX5_breaksAt_100 (by decide) ?_
          refine zs_sub (lv' := [(0, .ref (c + cs_va i)), (1, .ref (zt_ad W.2.1 0)), (2, .int a2), (3, .int (t2.1 + 1))]) [0, 1, 2, 3] rfl ?_
          exact hL2 ((t2.1 + 1), p4)
      · refine zs_if_le (pc := 28) (tgt := 79) dX5_breaksAt_28 (by decide) ?_ ?_
        · refine zs_iload (pc := 31) 5 dX5_breaksAt_31 rfl ?_
          refine zs_aload_n (pc := 33) 0 dX5_breaksAt_33 rfl rfl ?_
          refine cs_getr (pc := 34) (cs_va i) (10 + i) 1 (v := .ref (c + (cs_va i + 2))) (cs_pv (by omega)) zc_X5 (cs_vcl (by omega)) (by decide) (cs_vsc (by omega) 1 false (by decide)) (cs_vcv (by omega) 1 2 (by decide)) q441 dX5_breaksAt_34 ?_
          refine zs_iload (pc := 37) 4 dX5_breaksAt_37 rfl ?_
          refine cs_iald (pc := 39) (cs_va i + 2) (10 + i) 1 (cs_pva (by omega) 2 (by decide) 6 rfl) dX5_breaksAt_39 (fun x6 => ?_)
          refine zs_iadd (pc := 40) dX5_breaksAt_40 ?_
          refine zs_aload_n (pc := 41) 0 dX5_breaksAt_41 rfl rfl ?_
          refine zs_aload_n (pc := 42) 1 dX5_breaksAt_42 rfl rfl ?_
          refine zs_aload_n (pc := 43) 0 dX5_breaksAt_43 rfl rfl ?_
          refine cs_getr (pc := 44) (cs_va i) (10 + i) 4 (v := .ref (c + (cs_va i + 5))) (cs_pv (by omega)) zc_X5 (cs_vcl (by omega)) (by decide) (cs_vsc (by omega) 4 false (by decide)) (cs_vcv (by omega) 4 5 (by decide)) q447 dX5_breaksAt_44 ?_
          refine zs_iload_n (pc := 47) 3 dX5_breaksAt_47 rfl rfl ?_
          refine zs_iconst (pc := 48) (v := 1) dX5_breaksAt_48 rfl ?_
          refine zs_isub (pc := 49) dX5_breaksAt_49 ?_
          refine cs_iald (pc := 50) (cs_va i + 5) (10 + i) 4 (cs_pva (by omega) 5 (by decide) 6 rfl) dX5_breaksAt_50 (fun x7 => ?_)
          refine zs_iload (pc := 51) 4 dX5_breaksAt_51 rfl ?_
          refine zs_aload_n (pc := 53) 1 dX5_breaksAt_53 rfl rfl ?_
          refine ct_like (pc := 54) q386 dX5_breaksAt_54 ?_
          refine zs_aload_n (pc := 57) 0 dX5_breaksAt_57 rfl rfl ?_
          refine cs_getr (pc := 58) (cs_va i) (10 + i) 4 (v := .ref (c + (cs_va i + 5))) (cs_pv (by omega)) zc_X5 (cs_vcl (by omega)) (by decide) (cs_vsc (by omega) 4 false (by decide)) (cs_vcv (by omega) 4 5 (by decide)) q447 dX5_breaksAt_58 ?_
          refine zs_iload_n (pc := 61) 3 dX5_breaksAt_61 rfl rfl ?_
          refine zs_iconst (pc := 62) (v := 1) dX5_breaksAt_62 rfl ?_
          refine zs_isub (pc := 63) dX5_breaksAt_63 ?_
          refine cs_iald (pc := 64) (cs_va i + 5) (10 + i) 4 (cs_pva (by omega) 5 (by decide) 6 rfl) dX5_breaksAt_64 (fun x8 => ?_)
          refine ct_lkrow (pc := 65) dX5_breaksAt_65 (fun k9 hk9 => ?_)
          refine zs_iload (pc := 66) 4 dX5_breaksAt_66 rfl ?_
          refine ct_lkald (pc := 68) hk9 dX5_breaksAt_68 (fun x10 => ?_)
          refine zs_callVwI (pc := 69) [.ref (zt_ad W.2.1 0), .int x7, .int x1, .int x10] [.int (x3 + x6)] (kv_xjoins D W P h0 c t2.2 i (by omega) x7 x1 x10) wv_joins q1260 zc_X5 (cs_rcvv (by omega)) dX5_breaksAt_69 rfl rfl (Nat.le_of_ble_eq_true rfl) (Nat.le_of_ble_eq_true rfl) (fun p11 => ?_)
          refine zs_icmp_le (pc := 72) (tgt := 79) dX5_breaksAt_72 (by decide) ?_ ?_
          · refine zs_iconst (pc := 75) (v := 2) dX5_breaksAt_75 rfl ?_
            refine zs_iload_n (pc := 76) 3 dX5_breaksAt_76 rfl rfl ?_
            refine zs_imul (pc := 77) dX5_breaksAt_77 ?_
            exact zs_iret (pc := 78) dX5_breaksAt_78 ((hR2 _).trans rfl) rfl rfl
          · exact h79 p11.2
        · exact h79 t2.2
    · refine zs_iconst (pc := 103) (v := (-1)) dX5_breaksAt_103 rfl ?_
      exact zs_iret (pc := 104) dX5_breaksAt_104 ((hR2 _).trans rfl) rfl rfl
theorem wh_haul : zs_mV RX0 yX0_haul cX0_haul 3 (some .int) 1 := ⟨q1242, q1243, q134, q1244, by decide, by decide +kernel⟩
def gh_haul (T : zt_T) (M : cs_S) (a1 : Int32) : Option (Int32 × cs_S) :=
(gh_isHaul a1).bind fun b1 =>
if b1 = true then ((gh_isLong T M).bind fun b2 =>
if b2 = true then ((gv_breaksAt T M 0 a1).bind fun p3 =>
(gh_keeps T p3.2).bind fun M4 =>
if p3.1 < 0 then ((some (cs_sF M4 (10 + 0) 7 ((M4.1 (10 + 0) 7) + a1))).bind fun M6 =>
some ((M6.1 (10 + 0) 5), M6))
else ((gv_loses T M4 0 (p3.1 / 2)).bind fun M5 =>
some ((M5.1 (10 + 0) 5), M5)))
else (some ((-1), M)))
else (some ((-1), M))
set_option maxHeartbeats 4000000 in
theorem kh_haul (D : zs_D) (W : cs_W) (P : Nat → Bool) (h0 : zs_AH) (c : Nat) (M : cs_S) (a1 : Int32) : zs_Con D (cs_R W P h0 c) cs_bd zs_eI yX0_haul cX0_haul 3 (some .int) 425 [.ref (c + 0), .int a1] M (gh_haul W.2.1 M a1) := by
  unfold gh_haul
  refine zs_con (own := RX0) (nm := "haul") pl_X0 rfl rfl (Nat.le_of_ble_eq_true rfl) ?_
  refine zs_lv (lv' := [(0, .ref (c + 0)), (1, .int a1)]) rfl ?_
  refine zs_iload_n (pc := 0) 1 dX0_haul_0 rfl rfl ?_
  refine zs_callSrB (pc := 1) [.int a1] [] (kh_isHaul D _ _ M a1) wh_isHaul q1245 dX0_haul_1 rfl rfl (Nat.le_of_ble_eq_true rfl) (Nat.le_of_ble_eq_true rfl) (fun b1 => ?_)
  refine zs_if_f (pc := 4) (tgt := 14) dX0_haul_4 (by decide) ?_ ?_
  · refine zs_aload_n (pc := 7) 0 dX0_haul_7 rfl rfl ?_
    refine zs_callVrB (pc := 8) [] [] (kh_isLong D W P h0 c M) wh_isLong q1248 zc_X0 cs_rcv0 dX0_haul_8 rfl rfl (Nat.le_of_ble_eq_true rfl) (Nat.le_of_ble_eq_true rfl) (fun b2 => ?_)
    refine zs_if_t (pc := 11) (tgt := 16) dX0_haul_11 (by decide) ?_ ?_
    · refine zs_aload_n (pc := 16) 0 dX0_haul_16 rfl rfl ?_
      refine cs_getr (pc := 17) 0 0 7 (v := .ref (c + cs_va 0)) ⟨⟨by decide, by decide⟩, rfl⟩ zc_X0 ⟨rfl, rfl⟩ (by decide) rfl rfl q536 dX0_haul_17 ?_
      refine zs_aload_n (pc := 20) 0 dX0_haul_20 rfl rfl ?_
      refine cs_getr (pc := 21) 0 0 3 (v := .ref (zt_ad W.2.1 0)) ⟨⟨by decide, by decide⟩, rfl⟩ zc_X0 ⟨rfl, rfl⟩ (by decide) rfl rfl q532 dX0_haul_21 ?_
      refine zs_iload_n (pc := 24) 1 dX0_haul_24 rfl rfl ?_
      refine zs_callVwI (pc := 25) [.ref (zt_ad W.2.1 0), .int a1] [] (kv_xbreaksAt D W P h0 c M 0 (by omega) a1) wv_breaksAt q1252 zc_X5 (cs_rcvv (by omega)) dX0_haul_25 rfl rfl (Nat.le_of_ble_eq_true rfl) (Nat.le_of_ble_eq_true rfl) (fun p3 => ?_)
      refine zs_istore_n (pc := 28) (lv' := [(0, .ref (c + 0)), (1, .int a1), (2, .int p3.1)]) [1, 2, 0] dX0_haul_28 rfl (by decide) rfl ?_
      refine zs_aload_n (pc := 29) 0 dX0_haul_29 rfl rfl ?_
      refine zs_callVv (pc := 30) [] [] (kh_keeps D W P h0 c p3.2) wh_keeps q1212 zc_X0 cs_rcv0 dX0_haul_30 rfl rfl (Nat.le_of_ble_eq_true rfl) (Nat.le_of_ble_eq_true rfl) (fun M4 => ?_)
      refine zs_iload_n (pc := 33) 2 dX0_haul_33 rfl rfl ?_
      refine zs_if_ge (pc := 34) (tgt := 53) dX0_haul_34 (by decide) ?_ ?_
      · refine zs_aload_n (pc := 37) 0 dX0_haul_37 rfl rfl ?_
        refine cs_getr (pc := 38) 0 0 7 (v := .ref (c + cs_va 0)) ⟨⟨by decide, by decide⟩, rfl⟩ zc_X0 ⟨rfl, rfl⟩ (by decide) rfl rfl q536 dX0_haul_38 ?_
        refine zs_dup (pc := 41) dX0_haul_41 rfl ?_
        refine cs_geti (pc := 42) (cs_va 0) (10 + 0) 7 (cs_pv (by omega)) zc_X5 (cs_vcl (by omega)) (by decide) (cs_vsc (by omega) 7 true (by decide)) q455 dX0_haul_42 ?_
        refine zs_iload_n (pc := 45) 1 dX0_haul_45 rfl rfl ?_
        refine zs_iadd (pc := 46) dX0_haul_46 ?_
        refine cs_puti (pc := 47) (cs_va 0) (10 + 0) 7 (cs_pv (by omega)) zc_X5 (cs_vcl (by omega)) (by decide) (cs_vsc (by omega) 7 true (by decide)) q455 rfl rfl rfl dX0_haul_47 (fun M6 => ?_)
        refine zs_goto (pc := 50) (tgt := 63) dX0_haul_50 (by decide) ?_
        refine zs_aload_n (pc := 63) 0 dX0_haul_63 rfl rfl ?_
        refine cs_getr (pc := 64) 0 0 7 (v := .ref (c + cs_va 0)) ⟨⟨by decide, by decide⟩, rfl⟩ zc_X0 ⟨rfl, rfl⟩ (by decide) rfl rfl q536 dX0_haul_64 ?_
        refine cs_geti (pc := 67) (cs_va 0) (10 + 0) 5 (cs_pv (by omega)) zc_X5 (cs_vcl (by omega)) (by decide) (cs_vsc (by omega) 5 true (by decide)) q450 dX0_haul_67 ?_
        exact zs_iret (pc := 70) dX0_haul_70 rfl rfl rfl
      · refine zs_aload_n (pc := 53) 0 dX0_haul_53 rfl rfl ?_
        refine cs_getr (pc := 54) 0 0 7 (v := .ref (c + cs_va 0)) ⟨⟨by decide, by decide⟩, rfl⟩ zc_X0 ⟨rfl, rfl⟩ (by decide) rfl rfl q536 dX0_haul_54 ?_
        refine zs_iload_n (pc := 57) 2 dX0_haul_57 rfl rfl ?_
        refine zs_iconst (pc := 58) (v := 2) dX0_haul_58 rfl ?_
        refine zs_idivK (pc := 59) dX0_haul_59 (by decide) ?_
        refine zs_callVv (pc := 60) [.int (p3.1 / 2)] [] (kv_xloses D W P h0 c M4 0 (by omega) (p3.1 / 2)) wv_loses q1237 zc_X5 (cs_rcvv (by omega)) dX0_haul_60 rfl rfl (Nat.le_of_ble_eq_true rfl) (Nat.le_of_ble_eq_true rfl) (fun M5 => ?_)
        refine zs_aload_n (pc := 63) 0 dX0_haul_63 rfl rfl ?_
        refine cs_getr (pc := 64) 0 0 7 (v := .ref (c + cs_va 0)) ⟨⟨by decide, by decide⟩, rfl⟩ zc_X0 ⟨rfl, rfl⟩ (by decide) rfl rfl q536 dX0_haul_64 ?_
        refine cs_geti (pc := 67) (cs_va 0) (10 + 0) 5 (cs_pv (by omega)) zc_X5 (cs_vcl (by omega)) (by decide) (cs_vsc (by omega) 5 true (by decide)) q450 dX0_haul_67 ?_
        exact zs_iret (pc := 70) dX0_haul_70 rfl rfl rfl
    · refine zs_iconst (pc := 14) (v := (-1)) dX0_haul_14 rfl ?_
      exact zs_iret (pc := 15) dX0_haul_15 rfl rfl rfl
  · refine zs_iconst (pc := 14) (v := (-1)) dX0_haul_14 rfl ?_
    exact zs_iret (pc := 15) dX0_haul_15 rfl rfl rfl
theorem wh_isAhead : zs_mS yX0_isAhead cX0_isAhead 1 (some .boolean) 1 := ⟨q1266, q134, q1267, by decide, by decide +kernel⟩
def gh_isAhead (a0 : Int32) : Option (Bool) :=
(gh_isIn a0 0 60).bind fun b1 =>
some b1
set_option maxHeartbeats 4000000 in
theorem kh_isAhead {σ : Type} (D : zs_D) (Rl : σ → zs_AH → Prop) (bd : σ → Nat × Nat) (M : σ) (a0 : Int32) : zs_Con D Rl bd zs_eB yX0_isAhead cX0_isAhead 1 (some .boolean) 1 [.int a0] M ((gh_isAhead a0).map fun x => (x, M)) := by
  unfold gh_isAhead
  refine zs_conR (own := RX0) (nm := "isAhead") pl_X0 rfl rfl (Nat.le_of_ble_eq_true rfl) ?_
  refine zs_lv (lv' := [(0, .int a0)]) rfl ?_
  refine zs_iload_n (pc := 0) 0 dX0_isAhead_0 rfl rfl ?_
  refine zs_iconst (pc := 1) (v := 0) dX0_isAhead_1 rfl ?_
  refine zs_bipush (pc := 2) (v := 60) dX0_isAhead_2 (by decide) ?_
  refine zs_callSrB (pc := 4) [.int a0, .int 0, .int 60] [] (kh_isIn D _ _ M a0 0 60) wh_isIn q1129 dX0_isAhead_4 rfl rfl (Nat.le_of_ble_eq_true rfl) (Nat.le_of_ble_eq_true rfl) (fun b1 => ?_)
  exact zs_iret (pc := 7) dX0_isAhead_7 rfl rfl (zs_nb _)
theorem wv_goesBy : zs_mV RX5 yX5_goesBy cX5_goesBy 5 none 2 := ⟨q1273, q1274, q145, q1275, by decide, by decide +kernel⟩
def gv_goesBy_L5 (T : zt_T) (i : Nat) (s2 : Bool) : (Int32 × Int32 × cs_S) → Option ((Int32 × Int32 × cs_S) ⊕ (Int32 × cs_S)) := fun t5 =>
if t5.2.1 < (nI (zt_n T)) then ((gv_grows T t5.2.2 i t5.2.1).bind fun p1 =>
(zs_ast 6 t5.2.1 (cs_sA p1.2 (10 + i) 9 t5.2.1 p1.1)).bind fun M2 =>
(gv_has T M2 i t5.2.1).bind fun b3 =>
(if b3 = true then ((gv_weakens T M2 i t5.2.1).bind fun p9 =>
some (p9.1, p9.2))
else (some (0, M2))).bind fun (p4 : Int32 × cs_S) =>
(zs_ast 6 t5.2.1 (cs_sA p4.2 (10 + i) 10 t5.2.1 p4.1)).bind fun M5 =>
(gv_blights T M5 i t5.2.1 s2).bind fun b6 =>
(if b6 = true then (some (zs_shl 1 t5.2.1))
else (some 0)).bind fun (p7 : Int32) =>
(some (t5.1 ||| p7)).bind fun x8 =>
some (Sum.inl (x8, (t5.2.1 + 1), M5)))
else (some (Sum.inr (t5.1, t5.2.2)))
def gv_goesBy_L89 (T : zt_T) (r10 : Int32 × cs_S) (i : Nat) : (Int32 × cs_S) → Option ((Int32 × cs_S) ⊕ (cs_S)) := fun t89 =>
if t89.1 < (nI (zt_n T)) then ((if ((zs_shr r10.1 t89.1) &&& 1) = 1 then ((zs_ald 6 (t89.2.2 (10 + i) 0) t89.1).bind fun x18 =>
some (x18 / 2))
else ((zs_ald 6 (t89.2.2 (10 + i) 0) t89.1).bind fun x16 =>
(zs_ald 6 (t89.2.2 (10 + i) 9) t89.1).bind fun x17 =>
some (zs_min 99 (x16 + x17)))).bind fun (p11 : Int32) =>
(zs_ast 6 t89.1 (cs_sA t89.2 (10 + i) 0 t89.1 p11)).bind fun M12 =>
(zs_ald 6 (M12.2 (10 + i) 2) t89.1).bind fun x13 =>
(zs_ald 6 (M12.2 (10 + i) 10) t89.1).bind fun x14 =>
(zs_ast 6 t89.1 (cs_sA M12 (10 + i) 2 t89.1 (zs_max 0 (x13 - x14)))).bind fun M15 =>
some (Sum.inl ((t89.1 + 1), M15)))
else (some (Sum.inr t89.2))
def gv_goesBy (T : zt_T) (M : cs_S) (i : Nat) (s2 : Bool) : Option (cs_S) :=
(zs_loop 5000 (gv_goesBy_L5 T i s2) (0, 0, M)).bind fun (r10 : Int32 × cs_S) =>
(zs_loop 5000 (gv_goesBy_L89 T r10 i) (0, r10.2)).bind fun (r19 : cs_S) =>
(some (cs_sF r19 (10 + i) 6 ((r19.1 (10 + i) 6) + 1))).bind fun M20 =>
some M20
set_option maxHeartbeats 4000000 in
theorem kv_xgoesBy (D : zs_D) (W : cs_W) (P : Nat → Bool) (h0 : zs_AH) (c : Nat) (M : cs_S) (i : Nat) (hi : i < 45) (s2 : Bool) : zs_Con D (cs_R W P h0 c) cs_bd zs_eV yX5_goesBy cX5_goesBy 5 none 424 [.ref (c + cs_va i), .ref (zt_ad W.2.1 0), .ref (c + cs_sk s2)] M ((gv_goesBy W.2.1 M i s2).map fun x => ((), x)) := by
  unfold gv_goesBy
  refine zs_conV (own := RX5) (nm := "goesBy") pl_X5 rfl rfl (Nat.le_of_ble_eq_true rfl) ?_
  refine zs_lv (lv' := [(0, .ref (c + cs_va i)), (1, .ref (zt_ad W.2.1 0)), (2, .ref (c + cs_sk s2))]) rfl ?_
  refine zs_iconst (pc := 0) (v := 0) dX5_goesBy_0 rfl ?_
  refine zs_istore_n (pc := 1) (lv' := [(0, .ref (c + cs_va i)), (1, .ref (zt_ad W.2.1 0)), (2, .ref (c + cs_sk s2)), (3, .int 0)]) [1, 2, 3, 0] dX5_goesBy_1 rfl (by decide) rfl ?_
  refine zs_iconst (pc := 2) (v := 0) dX5_goesBy_2 rfl ?_
  refine zs_istore (pc := 3) (lv' := [(0, .ref (c + cs_va i)), (1, .ref (zt_ad W.2.1 0)), (2, .ref (c + cs_sk s2)), (3, .int 0), (4, .int 0)]) [1, 2, 3, 4, 0] dX5_goesBy_3 (by decide) rfl ?_
  refine zs_whileJ (pc := 5) (fun (t5 : Int32 × Int32 × cs_S) => t5.2.2) (fun (t5 : Int32 × Int32 × cs_S) => [(0, .ref (c + cs_va i)), (1, .ref (zt_ad W.2.1 0)), (2, .ref (c + cs_sk s2)), (3, .int t5.1), (4, .int t5.2.1)]) 5000 (0, 0, M) (fun (r10 : Int32 × cs_S) => r10.2) 86 (fun (r10 : Int32 × cs_S) => [(0, .ref (c + cs_va i)), (1, .ref (zt_ad W.2.1 0)), (3, .int r10.1)]) [] (fun r10 => ?_) (fun X5 hL5 hE5 t5 => ?_)
  · refine zs_iconst (pc := 86) (v := 0) dX5_goesBy_86 rfl ?_
    refine zs_istore (pc := 87) (lv' := [(0, .ref (c + cs_va i)), (1, .ref (zt_ad W.2.1 0)), (3, .int r10.1), (4, .int 0)]) [1, 2, 3, 0] dX5_goesBy_87 (by decide) rfl ?_
    refine zs_whileJ (pc := 89) (fun (t89 : Int32 × cs_S) => t89.2) (fun (t89 : Int32 × cs_S) => [(0, .ref (c + cs_va i)), (1, .ref (zt_ad W.2.1 0)), (3, .int r10.1), (4, .int t89.1)]) 5000 (0, r10.2) (fun (r19 : cs_S) => r19) 182 (fun (r19 : cs_S) => [(0, .ref (c + cs_va i))]) [] (fun r19 => ?_) (fun X89 hL89 hE89 t89 => ?_)
    · refine zs_aload_n (pc := 182) 0 dX5_goesBy_182 rfl rfl ?_
      refine zs_dup (pc := 183) dX5_goesBy_183 rfl ?_
      refine cs_geti (pc := 184) (cs_va i) (10 + i) 6 (cs_pv (by omega)) zc_X5 (cs_vcl (by omega)) (by decide) (cs_vsc (by omega) 6 true (by decide)) q452 dX5_goesBy_184 ?_
      refine zs_iconst (pc := 187) (v := 1) dX5_goesBy_187 rfl ?_
      refine zs_iadd (pc := 188) dX5_goesBy_188 ?_
      refine cs_puti (pc := 189) (cs_va i) (10 + i) 6 (cs_pv (by omega)) zc_X5 (cs_vcl (by omega)) (by decide) (cs_vsc (by omega) 6 true (by decide)) q452 rfl rfl rfl dX5_goesBy_189 (fun M20 => ?_)
      exact zs_vret (pc := 192) dX5_goesBy_192 rfl rfl
    · unfold gv_goesBy_L89
      refine zs_iload (pc := 89) 3 dX5_goesBy_89 rfl ?_
      refine zs_aload_n (pc := 91) 1 dX5_goesBy_91 rfl rfl ?_
      refine ct_houses (pc := 92) q377 dX5_goesBy_92 ?_
      refine ct_size (pc := 95) q510 dX5_goesBy_95 (Nat.le_of_ble_eq_true rfl) (Nat.le_of_ble_eq_true rfl) ?_
      refine zs_icmp_ge (pc := 98) (tgt := 182) dX5_goesBy_98 (by decide) ?_ ?_
      · refine zs_aload_n (pc := 101) 0 dX5_goesBy_101 rfl rfl ?_
        refine cs_getr (pc := 102) (cs_va i) (10 + i) 0 (v := .ref (c + (cs_va i + 1))) (cs_pv (by omega)) zc_X5 (cs_vcl (by omega)) (by decide) (cs_vsc (by omega) 0 false (by decide)) (cs_vcv (by omega) 0 1 (by decide)) q439 dX5_goesBy_102 ?_
        refine zs_iload (pc := 105) 3 dX5_goesBy_105 rfl ?_
        refine zs_iload_n (pc := 107) 2 dX5_goesBy_107 rfl rfl ?_
        refine zs_iload (pc := 108) 3 dX5_goesBy_108 rfl ?_
        refine zs_ishr (pc := 110) dX5_goesBy_110 ?_
        refine zs_iconst (pc := 111) (v := 1) dX5_goesBy_111 rfl ?_
        refine zs_iand (pc := 112) dX5_goesBy_112 ?_
        refine zs_iconst (pc := 113) (v := 1) dX5_goesBy_113 rfl ?_
        refine zs_join (pc := 114) (fun (p11 : Int32) => t89.2) 149 (fun (p11 : Int32) => [(0, .ref (c + cs_va i)), (1, .ref (zt_ad W.2.1 0)), (3, .int r10.1), (4, .int t89.1)]) (fun (p11 : Int32) => [.int p11, .int t89.1, .ref (c + (cs_va i + 1))]) (fun p11 => ?_) (fun h149 => ?_)
        · refine cs_iast (pc := 149) (cs_va i + 1) (10 + i) 0 (cs_pva (by omega) 1 (by decide) 6 rfl) dX5_goesBy_149 (fun M12 => ?_)
          refine zs_aload_n (pc := 150) 0 dX5_goesBy_150 rfl rfl ?_
          refine cs_getr (pc := 151) (cs_va i) (10 + i) 2 (v := .ref (c + (cs_va i + 3))) (cs_pv (by omega)) zc_X5 (cs_vcl (by omega)) (by decide) (cs_vsc (by omega) 2 false (by decide)) (cs_vcv (by omega) 2 3 (by decide)) q443 dX5_goesBy_151 ?_
          refine zs_iload (pc := 154) 3 dX5_goesBy_154 rfl ?_
          refine zs_iconst (pc := 156) (v := 0) dX5_goesBy_156 rfl ?_
          refine zs_aload_n (pc := 157) 0 dX5_goesBy_157 rfl rfl ?_
          refine cs_getr (pc := 158) (cs_va i) (10 + i) 2 (v := .ref (c + (cs_va i + 3))) (cs_pv (by omega)) zc_X5 (cs_vcl (by omega)) (by decide) (cs_vsc (by omega) 2 false (by decide)) (cs_vcv (by omega) 2 3 (by decide)) q443 dX5_goesBy_158 ?_
          refine zs_iload (pc := 161) 3 dX5_goesBy_161 rfl ?_
          refine cs_iald (pc := 163) (cs_va i + 3) (10 + i) 2 (cs_pva (by omega) 3 (by decide) 6 rfl) dX5_goesBy_163 (fun x13 => ?_)
          refine zs_aload_n (pc := 164) 0 dX5_goesBy_164 rfl rfl ?_
          refine cs_getr (pc := 165) (cs_va i) (10 + i) 10 (v := .ref (c + (cs_va i + 7))) (cs_pv (by omega)) zc_X5 (cs_vcl (by omega)) (by decide) (cs_vsc (by omega) 10 false (by decide)) (cs_vcv (by omega) 10 7 (by decide)) q460 dX5_goesBy_165 ?_
          refine zs_iload (pc := 168) 3 dX5_goesBy_168 rfl ?_
          refine cs_iald (pc := 170) (cs_va i + 7) (10 + i) 10 (cs_pva (by omega) 7 (by decide) 6 rfl) dX5_goesBy_170 (fun x14 => ?_)
          refine zs_isub (pc := 171) dX5_goesBy_171 ?_
          refine zs_mmax (pc := 172) q1155 dX5_goesBy_172 (Nat.le_of_ble_eq_true rfl) (Nat.le_of_ble_eq_true rfl) ?_
          refine cs_iast (pc := 175) (cs_va i + 3) (10 + i) 2 (cs_pva (by omega) 3 (by decide) 6 rfl) dX5_goesBy_175 (fun M15 => ?_)
          refine zs_iinc (pc := 176) (lv' := [(0, .ref (c + cs_va i)), (1, .ref (zt_ad W.2.1 0)), (3, .int r10.1), (4, .int (t89.1 + 1))]) 3 [1, 2, 3, 0] dX5_goesBy_176 rfl rfl (by decide) rfl ?_
          refine zs_goto (pc := 179) (tgt := 89) dX5_goesBy_179 (by decide) ?_
          exact hL89 ((t89.1 + 1), M15)
        · refine zs_icmp_ne (pc := 114) (tgt := 129) dX5_goesBy_114 (by decide) ?_ ?_
          · refine zs_aload_n (pc := 117) 0 dX5_goesBy_117 rfl rfl ?_
            refine cs_getr (pc := 118) (cs_va i) (10 + i) 0 (v := .ref (c + (cs_va i + 1))) (cs_pv (by omega)) zc_X5 (cs_vcl (by omega)) (by decide) (cs_vsc (by omega) 0 false (by decide)) (cs_vcv (by omega) 0 1 (by decide)) q439 dX5_goesBy_118 ?_
            refine zs_iload (pc := 121) 3 dX5_goesBy_121 rfl ?_
            refine cs_iald (pc := 123) (cs_va i + 1) (10 + i) 0 (cs_pva (by omega) 1 (by decide) 6 rfl) dX5_goesBy_123 (fun x18 => ?_)
            refine zs_iconst (pc := 124) (v := 2) dX5_goesBy_124 rfl ?_
            refine zs_idivK (pc := 125) dX5_goesBy_125 (by decide) ?_
            refine zs_goto (pc := 126) (tgt := 149) dX5_goesBy_126 (by decide) ?_
            exact h149 (x18 / 2)
          · refine zs_bipush (pc := 129) (v := 99) dX5_goesBy_129 (by decide) ?_
            refine zs_aload_n (pc := 131) 0 dX5_goesBy_131 rfl rfl ?_
            refine cs_getr (pc := 132) (cs_va i) (10 + i) 0 (v := .ref (c + (cs_va i + 1))) (cs_pv (by omega)) zc_X5 (cs_vcl (by omega)) (by decide) (cs_vsc (by omega) 0 false (by decide)) (cs_vcv (by omega) 0 1 (by decide)) q439 dX5_goesBy_132 ?_
            refine zs_iload (pc := 135) 3 dX5_goesBy_135 rfl ?_
            refine cs_iald (pc := 137) (cs_va i + 1) (10 + i) 0 (cs_pva (by omega) 1 (by decide) 6 rfl) dX5_goesBy_137 (fun x16 => ?_)
            refine zs_aload_n (pc := 138) 0 dX5_goesBy_138 rfl rfl ?_
            refine cs_getr (pc := 139) (cs_va i) (10 + i) 9 (v := .ref (c + (cs_va i + 6))) (cs_pv (by omega)) zc_X5 (cs_vcl (by omega)) (by decide) (cs_vsc (by omega) 9 false (by decide)) (cs_vcv (by omega) 9 6 (by decide)) q459 dX5_goesBy_139 ?_
            refine zs_iload (pc := 142) 3 dX5_goesBy_142 rfl ?_
            refine cs_iald (pc := 144) (cs_va i + 6) (10 + i) 9 (cs_pva (by omega) 6 (by decide) 6 rfl) dX5_goesBy_144 (fun x17 => ?_)
            refine zs_iadd (pc := 145) dX5_goesBy_145 ?_
            refine zs_mmin (pc := 146) q1174 dX5_goesBy_146 (Nat.le_of_ble_eq_true rfl) (Nat.le_of_ble_eq_true rfl) ?_
            exact h149 (zs_min 99 (x16 + x17))
      · refine zs_sub (lv' := [(0, .ref (c + cs_va i))]) [0] rfl ?_
        exact hE89 t89.2
  · unfold gv_goesBy_L5
    refine zs_iload (pc := 5) 4 dX5_goesBy_5 rfl ?_
    refine zs_aload_n (pc := 7) 1 dX5_goesBy_7 rfl rfl ?_
    refine ct_houses (pc := 8) q377 dX5_goesBy_8 ?_
    refine ct_size (pc := 11) q510 dX5_goesBy_11 (Nat.le_of_ble_eq_true rfl) (Nat.le_of_ble_eq_true rfl) ?_
    refine zs_icmp_ge (pc := 14) (tgt := 86) dX5_goesBy_14 (by decide) ?_ ?_
    · refine zs_aload_n (pc := 17) 0 dX5_goesBy_17 rfl rfl ?_
      refine cs_getr (pc := 18) (cs_va i) (10 + i) 9 (v := .ref (c + (cs_va i + 6))) (cs_pv (by omega)) zc_X5 (cs_vcl (by omega)) (by decide) (cs_vsc (by omega) 9 false (by decide)) (cs_vcv (by omega) 9 6 (by decide)) q459 dX5_goesBy_18 ?_
      refine zs_iload (pc := 21) 4 dX5_goesBy_21 rfl ?_
      refine zs_aload_n (pc := 23) 0 dX5_goesBy_23 rfl rfl ?_
      refine zs_aload_n (pc := 24) 1 dX5_goesBy_24 rfl rfl ?_
      refine zs_iload (pc := 25) 4 dX5_goesBy_25 rfl ?_
      refine zs_callVwI (pc := 27) [.ref (zt_ad W.2.1 0), .int t5.2.1] [.int t5.2.1, .ref (c + (cs_va i + 6))] (kv_xgrows D W P h0 c t5.2.2 i (by omega) t5.2.1) wv_grows q1276 zc_X5 (cs_rcvv (by omega)) dX5_goesBy_27 rfl rfl (Nat.le_of_ble_eq_true rfl) (Nat.le_of_ble_eq_true rfl) (fun p1 => ?_)
      refine cs_iast (pc := 30) (cs_va i + 6) (10 + i) 9 (cs_pva (by omega) 6 (by decide) 6 rfl) dX5_goesBy_30 (fun M2 => ?_)
      refine zs_aload_n (pc := 31) 0 dX5_goesBy_31 rfl rfl ?_
      refine cs_getr (pc := 32) (cs_va i) (10 + i) 10 (v := .ref (c + (cs_va i + 7))) (cs_pv (by omega)) zc_X5 (cs_vcl (by omega)) (by decide) (cs_vsc (by omega) 10 false (by decide)) (cs_vcv (by omega) 10 7 (by decide)) q460 dX5_goesBy_32 ?_
      refine zs_iload (pc := 35) 4 dX5_goesBy_35 rfl ?_
      refine zs_aload_n (pc := 37) 0 dX5_goesBy_37 rfl rfl ?_
      refine zs_iload (pc := 38) 4 dX5_goesBy_38 rfl ?_
      refine zs_callVrB (pc := 40) [.int t5.2.1] [.int t5.2.1, .ref (c + (cs_va i + 7))] (kv_xhas D W P h0 c M2 i (by omega) t5.2.1) wv_has q1150 zc_X5 (cs_rcvv (by omega)) dX5_goesBy_40 rfl rfl (Nat.le_of_ble_eq_true rfl) (Nat.le_of_ble_eq_true rfl) (fun b3 => ?_)
      refine zs_join (pc := 43) (fun (p4 : Int32 × cs_S) => p4.2) 57 (fun (p4 : Int32 × cs_S) => [(0, .ref (c + cs_va i)), (1, .ref (zt_ad W.2.1 0)), (2, .ref (c + cs_sk s2)), (3, .int t5.1), (4, .int t5.2.1)]) (fun (p4 : Int32 × cs_S) => [.int p4.1, .int t5.2.1, .ref (c + (cs_va i + 7))]) (fun p4 => ?_) (fun h57 => ?_)
      · refine cs_iast (pc := 57) (cs_va i + 7) (10 + i) 10 (cs_pva (by omega) 7 (by decide) 6 rfl) dX5_goesBy_57 (fun M5 => ?_)
        refine zs_iload_n (pc := 58) 3 dX5_goesBy_58 rfl rfl ?_
        refine zs_aload_n (pc := 59) 2 dX5_goesBy_59 rfl rfl ?_
        refine zs_aload_n (pc := 60) 0 dX5_goesBy_60 rfl rfl ?_
        refine zs_aload_n (pc := 61) 1 dX5_goesBy_61 rfl rfl ?_
        refine zs_iload (pc := 62) 4 dX5_goesBy_62 rfl ?_
        refine ct_blights (pc := 64) (by omega) q1278 dX5_goesBy_64 (Nat.le_of_ble_eq_true rfl) (Nat.le_of_ble_eq_true rfl) (fun b6 => ?_)
        refine zs_join (pc := 67) (fun (p7 : Int32) => M5) 78 (fun (p7 : Int32) => [(0, .ref (c + cs_va i)), (1, .ref (zt_ad W.2.1 0)), (2, .ref (c + cs_sk s2)), (4, .int t5.2.1)]) (fun (p7 : Int32) => [.int p7, .int t5.1]) (fun p7 => ?_) (fun h78 => ?_)
        · refine zs_ior (pc := 78) dX5_goesBy_78 ?_
          refine zs_nm (fun x8 => ?_)
          refine zs_istore_n (pc := 79) (lv' := [(0, .ref (c + cs_va i)), (1, .ref (zt_ad W.2.1 0)), (2, .ref (c + cs_sk s2)), (3, .int x8), (4, .int t5.2.1)]) [1, 2, 3, 0, 4] dX5_goesBy_79 rfl (by decide) rfl ?_
          refine zs_iinc (pc := 80) (lv' := [(0, .ref (c + cs_va i)), (1, .ref (zt_ad W.2.1 0)), (2, .ref (c + cs_sk s2)), (3, .int x8), (4, .int (t5.2.1 + 1))]) 4 [1, 2, 3, 4, 0] dX5_goesBy_80 rfl rfl (by decide) rfl ?_
          refine zs_goto (pc := 83) (tgt := 5) dX5_goesBy_83 (by decide) ?_
          exact hL5 (x8, (t5.2.1 + 1), M5)
        · refine zs_if_f (pc := 67) (tgt := 77) dX5_goesBy_67 (by decide) ?_ ?_
          · refine zs_iconst (pc := 70) (v := 1) dX5_goesBy_70 rfl ?_
            refine zs_iload (pc := 71) 4 dX5_goesBy_71 rfl ?_
            refine zs_ishl (pc := 73) dX5_goesBy_73 ?_
            refine zs_goto (pc := 74) (tgt := 78) dX5_goesBy_74 (by decide) ?_
            refine zs_sub (lv' := [(0, .ref (c + cs_va i)), (1, .ref (zt_ad W.2.1 0)), (2, .ref (c + cs_sk s2)), (4, .int t5.2.1)]) [0, 1, 2, 4] rfl ?_
            exact h78 (zs_shl 1 t5.2.1)
          · refine zs_iconst (pc := 77) (v := 0) dX5_goesBy_77 rfl ?_
            refine zs_sub (lv' := [(0, .ref (c + cs_va i)), (1, .ref (zt_ad W.2.1 0)), (2, .ref (c + cs_sk s2)), (4, .int t5.2.1)]) [0, 1, 2, 4] rfl ?_
            exact h78 0
      · refine zs_if_f (pc := 43) (tgt := 56) dX5_goesBy_43 (by decide) ?_ ?_
        · refine zs_aload_n (pc := 46) 0 dX5_goesBy_46 rfl rfl ?_
          refine zs_aload_n (pc := 47) 1 dX5_goesBy_47 rfl rfl ?_
          refine zs_iload (pc := 48) 4 dX5_goesBy_48 rfl ?_
          refine zs_callVwI (pc := 50) [.ref (zt_ad W.2.1 0), .int t5.2.1] [.int t5.2.1, .ref (c + (cs_va i + 7))] (kv_xweakens D W P h0 c M2 i (by omega) t5.2.1) wv_weakens q1277 zc_X5 (cs_rcvv (by omega)) dX5_goesBy_50 rfl rfl (Nat.le_of_ble_eq_true rfl) (Nat.le_of_ble_eq_true rfl) (fun p9 => ?_)
          refine zs_goto (pc := 53) (tgt := 57) dX5_goesBy_53 (by decide) ?_
          exact h57 (p9.1, p9.2)
        · refine zs_iconst (pc := 56) (v := 0) dX5_goesBy_56 rfl ?_
          exact h57 (0, M2)
    · refine zs_sub (lv' := [(0, .ref (c + cs_va i)), (1, .ref (zt_ad W.2.1 0)), (3, .int t5.1)]) [0, 1, 3] rfl ?_
      exact hE5 (t5.1, t5.2.2)
theorem wh_runs : zs_mV RX0 yX0_runs cX0_runs 5 none 3 := ⟨q1270, qs37, q134, q1271, by decide, by decide +kernel⟩
def gh_runs_L3 (a2 : Int32) (T : zt_T) (v1 : Nat) (s3 : Bool) : (Int32 × cs_S) → Option ((Int32 × cs_S) ⊕ (cs_S)) := fun t3 =>
if t3.1 < a2 then ((gv_goesBy T t3.2 v1 s3).bind fun M1 =>
some (Sum.inl ((t3.1 + 1), M1)))
else (some (Sum.inr t3.2))
def gh_runs (T : zt_T) (M : cs_S) (v1 : Nat) (a2 : Int32) (s3 : Bool) : Option (cs_S) :=
(zs_loop 5000 (gh_runs_L3 a2 T v1 s3) (0, M)).bind fun z => some z
set_option maxHeartbeats 4000000 in
theorem kh_runs (D : zs_D) (W : cs_W) (P : Nat → Bool) (h0 : zs_AH) (c : Nat) (M : cs_S) (v1 : Nat) (hv1 : v1 < 45) (a2 : Int32) (s3 : Bool) : zs_Con D (cs_R W P h0 c) cs_bd zs_eV yX0_runs cX0_runs 5 none 425 [.ref (c + 0), .ref (c + cs_va v1), .int a2, .ref (c + cs_sk s3)] M ((gh_runs W.2.1 M v1 a2 s3).map fun x => ((), x)) := by
  unfold gh_runs
  refine zs_conV (own := RX0) (nm := "runs") pl_X0 rfl rfl (Nat.le_of_ble_eq_true rfl) ?_
  refine zs_lv (lv' := [(0, .ref (c + 0)), (1, .ref (c + cs_va v1)), (2, .int a2), (3, .ref (c + cs_sk s3))]) rfl ?_
  refine zs_iconst (pc := 0) (v := 0) dX0_runs_0 rfl ?_
  refine zs_istore (pc := 1) (lv' := [(0, .ref (c + 0)), (1, .ref (c + cs_va v1)), (2, .int a2), (3, .ref (c + cs_sk s3)), (4, .int 0)]) [1, 2, 3, 4, 0] dX0_runs_1 (by decide) rfl ?_
  refine zs_whileX (pc := 3) (fun (t3 : Int32 × cs_S) => t3.2) (fun (t3 : Int32 × cs_S) => [(0, .ref (c + 0)), (1, .ref (c + cs_va v1)), (2, .int a2), (3, .ref (c + cs_sk s3)), (4, .int t3.1)]) 5000 (0, M) (fun X3 hL3 hR3 t3 => ?_)
  unfold gh_runs_L3
  refine zs_iload (pc := 3) 4 dX0_runs_3 rfl ?_
  refine zs_iload_n (pc := 5) 2 dX0_runs_5 rfl rfl ?_
  refine zs_icmp_ge (pc := 6) (tgt := 24) dX0_runs_6 (by decide) ?_ ?_
  · refine zs_aload_n (pc := 9) 1 dX0_runs_9 rfl rfl ?_
    refine zs_aload_n (pc := 10) 0 dX0_runs_10 rfl rfl ?_
    refine cs_getr (pc := 11) 0 0 3 (v := .ref (zt_ad W.2.1 0)) ⟨⟨by decide, by decide⟩, rfl⟩ zc_X0 ⟨rfl, rfl⟩ (by decide) rfl rfl q532 dX0_runs_11 ?_
    refine zs_aload_n (pc := 14) 3 dX0_runs_14 rfl rfl ?_
    refine zs_callVv (pc := 15) [.ref (zt_ad W.2.1 0), .ref (c + cs_sk s3)] [] (kv_xgoesBy D W P h0 c t3.2 v1 (by omega) s3) wv_goesBy q1272 zc_X5 (cs_rcvv (by omega)) dX0_runs_15 rfl rfl (Nat.le_of_ble_eq_true rfl) (Nat.le_of_ble_eq_true rfl) (fun M1 => ?_)
    refine zs_iinc (pc := 18) (lv' := [(0, .ref (c + 0)), (1, .ref (c + cs_va v1)), (2, .int a2), (3, .ref (c + cs_sk s3)), (4, .int (t3.1 + 1))]) 4 [1, 2, 3, 4, 0] dX0_runs_18 rfl rfl (by decide) rfl ?_
    refine zs_goto (pc := 21) (tgt := 3) dX0_runs_21 (by decide) ?_
    exact hL3 ((t3.1 + 1), M1)
  · exact zs_vret (pc := 24) dX0_runs_24 ((hR3 _).trans rfl) rfl
theorem wh_years : zs_mV RX0 yX0_years cX0_years 2 (some .int) 1 := ⟨q1262, q1263, q134, q1264, by decide, by decide +kernel⟩
def gh_years (T : zt_T) (M : cs_S) (a1 : Int32) : Option (Int32 × cs_S) :=
(gh_isAhead a1).bind fun b1 =>
if b1 = true then ((if 0 < a1 then ((gh_keeps T M).bind fun M4 =>
some M4)
else (some M)).bind fun (p2 : cs_S) =>
(gh_runs T p2 0 a1 false).bind fun M3 =>
some ((M3.1 (10 + 0) 6), M3))
else (some ((-1), M))
set_option maxHeartbeats 4000000 in
theorem kh_years (D : zs_D) (W : cs_W) (P : Nat → Bool) (h0 : zs_AH) (c : Nat) (M : cs_S) (a1 : Int32) : zs_Con D (cs_R W P h0 c) cs_bd zs_eI yX0_years cX0_years 2 (some .int) 426 [.ref (c + 0), .int a1] M (gh_years W.2.1 M a1) := by
  unfold gh_years
  refine zs_con (own := RX0) (nm := "years") pl_X0 rfl rfl (Nat.le_of_ble_eq_true rfl) ?_
  refine zs_lv (lv' := [(0, .ref (c + 0)), (1, .int a1)]) rfl ?_
  refine zs_iload_n (pc := 0) 1 dX0_years_0 rfl rfl ?_
  refine zs_callSrB (pc := 1) [.int a1] [] (kh_isAhead D _ _ M a1) wh_isAhead q1265 dX0_years_1 rfl rfl (Nat.le_of_ble_eq_true rfl) (Nat.le_of_ble_eq_true rfl) (fun b1 => ?_)
  refine zs_if_t (pc := 4) (tgt := 9) dX0_years_4 (by decide) ?_ ?_
  · refine zs_iload_n (pc := 9) 1 dX0_years_9 rfl rfl ?_
    refine zs_join (pc := 10) (fun (p2 : cs_S) => p2) 17 (fun (p2 : cs_S) => [(0, .ref (c + 0)), (1, .int a1)]) (fun (p2 : cs_S) => []) (fun p2 => ?_) (fun h17 => ?_)
    · refine zs_aload_n (pc := 17) 0 dX0_years_17 rfl rfl ?_
      refine zs_aload_n (pc := 18) 0 dX0_years_18 rfl rfl ?_
      refine cs_getr (pc := 19) 0 0 7 (v := .ref (c + cs_va 0)) ⟨⟨by decide, by decide⟩, rfl⟩ zc_X0 ⟨rfl, rfl⟩ (by decide) rfl rfl q536 dX0_years_19 ?_
      refine zs_iload_n (pc := 22) 1 dX0_years_22 rfl rfl ?_
      refine zs_aload_n (pc := 23) 0 dX0_years_23 rfl rfl ?_
      refine cs_getr (pc := 24) 0 0 11 (v := .ref (c + cs_sk false)) ⟨⟨by decide, by decide⟩, rfl⟩ zc_X0 ⟨rfl, rfl⟩ (by decide) rfl rfl q540 dX0_years_24 ?_
      refine zs_callVv (pc := 27) [.ref (c + cs_va 0), .int a1, .ref (c + cs_sk false)] [] (kh_runs D W P h0 c p2 0 (by omega) a1 false) wh_runs q1268 zc_X0 cs_rcv0 dX0_years_27 rfl rfl (Nat.le_of_ble_eq_true rfl) (Nat.le_of_ble_eq_true rfl) (fun M3 => ?_)
      refine zs_aload_n (pc := 30) 0 dX0_years_30 rfl rfl ?_
      refine cs_getr (pc := 31) 0 0 7 (v := .ref (c + cs_va 0)) ⟨⟨by decide, by decide⟩, rfl⟩ zc_X0 ⟨rfl, rfl⟩ (by decide) rfl rfl q536 dX0_years_31 ?_
      refine cs_geti (pc := 34) (cs_va 0) (10 + 0) 6 (cs_pv (by omega)) zc_X5 (cs_vcl (by omega)) (by decide) (cs_vsc (by omega) 6 true (by decide)) q453 dX0_years_34 ?_
      exact zs_iret (pc := 37) dX0_years_37 rfl rfl rfl
    · refine zs_if_le (pc := 10) (tgt := 17) dX0_years_10 (by decide) ?_ ?_
      · refine zs_aload_n (pc := 13) 0 dX0_years_13 rfl rfl ?_
        refine zs_callVv (pc := 14) [] [] (kh_keeps D W P h0 c M) wh_keeps q1212 zc_X0 cs_rcv0 dX0_years_14 rfl rfl (Nat.le_of_ble_eq_true rfl) (Nat.le_of_ble_eq_true rfl) (fun M4 => ?_)
        exact h17 M4
      · exact h17 M
  · refine zs_iconst (pc := 7) (v := (-1)) dX0_years_7 rfl ?_
    exact zs_iret (pc := 8) dX0_years_8 rfl rfl rfl
theorem wh_undo : zs_mV RX0 yX0_undo cX0_undo 1 (some .boolean) 0 := ⟨q1295, q1296, q134, q1297, by decide, by decide +kernel⟩
def gh_undo (T : zt_T) (M : cs_S) : Option (Bool × cs_S) :=
if (M.1 0 5) = 0 then (some (false, M))
else ((some (cs_sF M 0 5 ((M.1 0 5) - 1))).bind fun M1 =>
(some (cs_sF M1 0 6 (zs_rem (((M1.1 0 6) + 40) - 1) 40))).bind fun M2 =>
(zs_ix 40 (M2.1 0 6)).bind fun k3 =>
(gv_becomes T M2 0 (2 + k3)).bind fun M4 =>
some (true, M4))
set_option maxHeartbeats 4000000 in
theorem kh_undo (D : zs_D) (W : cs_W) (P : Nat → Bool) (h0 : zs_AH) (c : Nat) (M : cs_S) : zs_Con D (cs_R W P h0 c) cs_bd zs_eB yX0_undo cX0_undo 1 (some .boolean) 3 [.ref (c + 0)] M (gh_undo W.2.1 M) := by
  unfold gh_undo
  refine zs_con (own := RX0) (nm := "undo") pl_X0 rfl rfl (Nat.le_of_ble_eq_true rfl) ?_
  refine zs_lv (lv' := [(0, .ref (c + 0))]) rfl ?_
  refine zs_aload_n (pc := 0) 0 dX0_undo_0 rfl rfl ?_
  refine cs_geti (pc := 1) 0 0 5 ⟨⟨by decide, by decide⟩, rfl⟩ zc_X0 ⟨rfl, rfl⟩ (by decide) rfl q534 dX0_undo_1 ?_
  refine zs_if_ne (pc := 4) (tgt := 9) dX0_undo_4 (by decide) ?_ ?_
  · refine zs_iconst (pc := 7) (v := 0) dX0_undo_7 rfl ?_
    exact zs_iret (pc := 8) dX0_undo_8 rfl rfl rfl
  · refine zs_aload_n (pc := 9) 0 dX0_undo_9 rfl rfl ?_
    refine zs_dup (pc := 10) dX0_undo_10 rfl ?_
    refine cs_geti (pc := 11) 0 0 5 ⟨⟨by decide, by decide⟩, rfl⟩ zc_X0 ⟨rfl, rfl⟩ (by decide) rfl q534 dX0_undo_11 ?_
    refine zs_iconst (pc := 14) (v := 1) dX0_undo_14 rfl ?_
    refine zs_isub (pc := 15) dX0_undo_15 ?_
    refine cs_puti (pc := 16) 0 0 5 ⟨⟨by decide, by decide⟩, rfl⟩ zc_X0 ⟨rfl, rfl⟩ (by decide) rfl q534 rfl rfl rfl dX0_undo_16 (fun M1 => ?_)
    refine zs_aload_n (pc := 19) 0 dX0_undo_19 rfl rfl ?_
    refine zs_aload_n (pc := 20) 0 dX0_undo_20 rfl rfl ?_
    refine cs_geti (pc := 21) 0 0 6 ⟨⟨by decide, by decide⟩, rfl⟩ zc_X0 ⟨rfl, rfl⟩ (by decide) rfl q535 dX0_undo_21 ?_
    refine zs_bipush (pc := 24) (v := 40) dX0_undo_24 (by decide) ?_
    refine zs_iadd (pc := 26) dX0_undo_26 ?_
    refine zs_iconst (pc := 27) (v := 1) dX0_undo_27 rfl ?_
    refine zs_isub (pc := 28) dX0_undo_28 ?_
    refine zs_bipush (pc := 29) (v := 40) dX0_undo_29 (by decide) ?_
    refine zs_iremK (pc := 31) dX0_undo_31 (by decide) ?_
    refine cs_puti (pc := 32) 0 0 6 ⟨⟨by decide, by decide⟩, rfl⟩ zc_X0 ⟨rfl, rfl⟩ (by decide) rfl q535 rfl rfl rfl dX0_undo_32 (fun M2 => ?_)
    refine zs_aload_n (pc := 35) 0 dX0_undo_35 rfl rfl ?_
    refine cs_getr (pc := 36) 0 0 7 (v := .ref (c + cs_va 0)) ⟨⟨by decide, by decide⟩, rfl⟩ zc_X0 ⟨rfl, rfl⟩ (by decide) rfl rfl q536 dX0_undo_36 ?_
    refine zs_aload_n (pc := 39) 0 dX0_undo_39 rfl rfl ?_
    refine cs_getr (pc := 40) 0 0 9 (v := .ref (c + 40)) ⟨⟨by decide, by decide⟩, rfl⟩ zc_X0 ⟨rfl, rfl⟩ (by decide) rfl rfl q538 dX0_undo_40 ?_
    refine zs_aload_n (pc := 43) 0 dX0_undo_43 rfl rfl ?_
    refine cs_geti (pc := 44) 0 0 6 ⟨⟨by decide, by decide⟩, rfl⟩ zc_X0 ⟨rfl, rfl⟩ (by decide) rfl q535 dX0_undo_44 ?_
    refine cs_past (pc := 47) dX0_undo_47 (fun k3 hk3 => ?_)
    refine zs_callVv (pc := 48) [.ref (c + cs_va (2 + k3))] [] (kv_xbecomes D W P h0 c M2 0 (by omega) (2 + k3) (by omega)) wv_becomes q1216 zc_X5 (cs_rcvv (by omega)) dX0_undo_48 rfl rfl (Nat.le_of_ble_eq_true rfl) (Nat.le_of_ble_eq_true rfl) (fun M4 => ?_)
    refine zs_iconst (pc := 51) (v := 1) dX0_undo_51 rfl ?_
    exact zs_iret (pc := 52) dX0_undo_52 rfl rfl rfl
theorem wh_mostOf : zs_mV RX0 yX0_mostOf cX0_mostOf 3 (some .int) 1 := ⟨q1304, qs38, q134, q1305, by decide, by decide +kernel⟩
def gh_mostOf_L4 (T : zt_T) (v1 : Nat) : (Int32 × cs_S) → Option ((Int32 × cs_S) ⊕ (Int32 × cs_S)) := fun t4 =>
if t4.1 < 0 then (some (Sum.inr (t4.1, t4.2)))
else ((gv_breaksAt T t4.2 v1 t4.1).bind fun p1 =>
if p1.1 < 0 then (some (Sum.inr (t4.1, p1.2)))
else ((some p1.2).bind fun M2 =>
some (Sum.inl ((t4.1 + (-1)), M2))))
def gh_mostOf (T : zt_T) (M : cs_S) (v1 : Nat) : Option (Int32 × cs_S) :=
(zs_loop 5000 (gh_mostOf_L4 T v1) (999, M)).bind fun (r3 : Int32 × cs_S) =>
if r3.1 < 0 then (some ((-2), r3.2))
else (some (r3.1, r3.2))
set_option maxHeartbeats 4000000 in
theorem kh_mostOf (D : zs_D) (W : cs_W) (P : Nat → Bool) (h0 : zs_AH) (c : Nat) (M : cs_S) (v1 : Nat) (hv1 : v1 < 45) : zs_Con D (cs_R W P h0 c) cs_bd zs_eI yX0_mostOf cX0_mostOf 3 (some .int) 425 [.ref (c + 0), .ref (c + cs_va v1)] M (gh_mostOf W.2.1 M v1) := by
  unfold gh_mostOf
  refine zs_con (own := RX0) (nm := "mostOf") pl_X0 rfl rfl (Nat.le_of_ble_eq_true rfl) ?_
  refine zs_lv (lv' := [(0, .ref (c + 0)), (1, .ref (c + cs_va v1))]) rfl ?_
  refine zs_sipush (pc := 0) (v := 999) dX0_mostOf_0 (by decide) ?_
  refine zs_istore_n (pc := 3) (lv' := [(0, .ref (c + 0)), (1, .ref (c + cs_va v1)), (2, .int 999)]) [1, 2, 0] dX0_mostOf_3 rfl (by decide) rfl ?_
  refine zs_whileJ (pc := 4) (fun (t4 : Int32 × cs_S) => t4.2) (fun (t4 : Int32 × cs_S) => [(0, .ref (c + 0)), (1, .ref (c + cs_va v1)), (2, .int t4.1)]) 5000 (999, M) (fun (r3 : Int32 × cs_S) => r3.2) 26 (fun (r3 : Int32 × cs_S) => [(2, .int r3.1)]) [] (fun r3 => ?_) (fun X4 hL4 hE4 t4 => ?_)
  · refine zs_iload_n (pc := 26) 0 dX0_mostOf_26 rfl rfl ?_
    refine zs_if_ge (pc := 27) (tgt := 35) dX0_mostOf_27 (by decide) ?_ ?_
    · refine zs_bipush (pc := 30) (v := (-2)) dX0_mostOf_30 (by decide) ?_
      refine zs_goto (pc := 32) (tgt := 36) dX0_mostOf_32 (by decide) ?_
      exact zs_iret (pc := 36) dX0_mostOf_36 rfl rfl rfl
    · refine zs_iload_n (pc := 35) 0 dX0_mostOf_35 rfl rfl ?_
      exact zs_iret (pc := 36) dX0_mostOf_36 rfl rfl rfl
  · unfold gh_mostOf_L4
    refine zs_iload_n (pc := 4) 2 dX0_mostOf_4 rfl rfl ?_
    refine zs_if_lt (pc := 5) (tgt := 26) dX0_mostOf_5 (by decide) ?_ ?_
    · refine zs_sub (lv' := [(2, .int t4.1)]) [2] rfl ?_
      exact hE4 (t4.1, t4.2)
    · refine zs_aload_n (pc := 8) 1 dX0_mostOf_8 rfl rfl ?_
      refine zs_aload_n (pc := 9) 0 dX0_mostOf_9 rfl rfl ?_
      refine cs_getr (pc := 10) 0 0 3 (v := .ref (zt_ad W.2.1 0)) ⟨⟨by decide, by decide⟩, rfl⟩ zc_X0 ⟨rfl, rfl⟩ (by decide) rfl rfl q532 dX0_mostOf_10 ?_
      refine zs_iload_n (pc := 13) 2 dX0_mostOf_13 rfl rfl ?_
      refine zs_callVwI (pc := 14) [.ref (zt_ad W.2.1 0), .int t4.1] [] (kv_xbreaksAt D W P h0 c t4.2 v1 (by omega) t4.1) wv_breaksAt q1252 zc_X5 (cs_rcvv (by omega)) dX0_mostOf_14 rfl rfl (Nat.le_of_ble_eq_true rfl) (Nat.le_of_ble_eq_true rfl) (fun p1 => ?_)
      refine zs_if_lt (pc := 17) (tgt := 26) dX0_mostOf_17 (by decide) ?_ ?_
      · refine zs_sub (lv' := [(2, .int t4.1)]) [2] rfl ?_
        exact hE4 (t4.1, p1.2)
      · refine zs_iinc (pc := 20) (lv' := [(0, .ref (c + 0)), (1, .ref (c + cs_va v1)), (2, .int (t4.1 + (-1)))]) 2 [1, 2, 0] dX0_mostOf_20 rfl rfl (by decide) rfl ?_
        refine zs_goto (pc := 23) (tgt := 4) dX0_mostOf_23 (by decide) ?_
        refine zs_nmM (fun M2 => ?_)
        exact hL4 ((t4.1 + (-1)), M2)
theorem wh_most : zs_mV RX0 yX0_most cX0_most 1 (some .int) 0 := ⟨q1299, q1300, q134, q1301, by decide, by decide +kernel⟩
def gh_most (T : zt_T) (M : cs_S) : Option (Int32 × cs_S) :=
(gh_mostOf T M 0).bind fun p1 =>
some (p1.1, p1.2)
set_option maxHeartbeats 4000000 in
theorem kh_most (D : zs_D) (W : cs_W) (P : Nat → Bool) (h0 : zs_AH) (c : Nat) (M : cs_S) : zs_Con D (cs_R W P h0 c) cs_bd zs_eI yX0_most cX0_most 1 (some .int) 426 [.ref (c + 0)] M (gh_most W.2.1 M) := by
  unfold gh_most
  refine zs_con (own := RX0) (nm := "most") pl_X0 rfl rfl (Nat.le_of_ble_eq_true rfl) ?_
  refine zs_lv (lv' := [(0, .ref (c + 0))]) rfl ?_
  refine zs_aload_n (pc := 0) 0 dX0_most_0 rfl rfl ?_
  refine zs_aload_n (pc := 1) 0 dX0_most_1 rfl rfl ?_
  refine cs_getr (pc := 2) 0 0 7 (v := .ref (c + cs_va 0)) ⟨⟨by decide, by decide⟩, rfl⟩ zc_X0 ⟨rfl, rfl⟩ (by decide) rfl rfl q536 dX0_most_2 ?_
  refine zs_callVwI (pc := 5) [.ref (c + cs_va 0)] [] (kh_mostOf D W P h0 c M 0 (by omega)) wh_mostOf q1302 zc_X0 cs_rcv0 dX0_most_5 rfl rfl (Nat.le_of_ble_eq_true rfl) (Nat.le_of_ble_eq_true rfl) (fun p1 => ?_)
  exact zs_iret (pc := 8) dX0_most_8 rfl rfl rfl
theorem wh_lasts : zs_mV RX0 yX0_lasts cX0_lasts 3 (some .int) 1 := ⟨q1307, q1308, q134, q1309, by decide, by decide +kernel⟩
def gh_lasts_L22 (T : zt_T) (a1 : Int32) : (Int32 × cs_S) → Option ((Int32 × cs_S) ⊕ (Int32 × cs_S)) := fun t22 =>
if 60 < t22.1 then (some (Sum.inr ((-2), t22.2)))
else ((gv_breaksAt T t22.2 1 a1).bind fun p3 =>
if p3.1 < 0 then ((gv_goesBy T p3.2 1 true).bind fun M4 =>
some (Sum.inl ((t22.1 + 1), M4)))
else (some (Sum.inr (t22.1, p3.2))))
def gh_lasts (T : zt_T) (M : cs_S) (a1 : Int32) : Option (Int32 × cs_S) :=
(gh_isHaul a1).bind fun b1 =>
if b1 = true then ((gv_becomes T M 1 0).bind fun M2 =>
(zs_loop 5000 (gh_lasts_L22 T a1) (0, M2)).bind fun z => some z)
else (some ((-1), M))
set_option maxHeartbeats 4000000 in
theorem kh_lasts (D : zs_D) (W : cs_W) (P : Nat → Bool) (h0 : zs_AH) (c : Nat) (M : cs_S) (a1 : Int32) : zs_Con D (cs_R W P h0 c) cs_bd zs_eI yX0_lasts cX0_lasts 3 (some .int) 425 [.ref (c + 0), .int a1] M (gh_lasts W.2.1 M a1) := by
  unfold gh_lasts
  refine zs_con (own := RX0) (nm := "lasts") pl_X0 rfl rfl (Nat.le_of_ble_eq_true rfl) ?_
  refine zs_lv (lv' := [(0, .ref (c + 0)), (1, .int a1)]) rfl ?_
  refine zs_iload_n (pc := 0) 1 dX0_lasts_0 rfl rfl ?_
  refine zs_callSrB (pc := 1) [.int a1] [] (kh_isHaul D _ _ M a1) wh_isHaul q1245 dX0_lasts_1 rfl rfl (Nat.le_of_ble_eq_true rfl) (Nat.le_of_ble_eq_true rfl) (fun b1 => ?_)
  refine zs_if_t (pc := 4) (tgt := 9) dX0_lasts_4 (by decide) ?_ ?_
  · refine zs_aload_n (pc := 9) 0 dX0_lasts_9 rfl rfl ?_
    refine cs_getr (pc := 10) 0 0 8 (v := .ref (c + cs_va 1)) ⟨⟨by decide, by decide⟩, rfl⟩ zc_X0 ⟨rfl, rfl⟩ (by decide) rfl rfl q537 dX0_lasts_10 ?_
    refine zs_aload_n (pc := 13) 0 dX0_lasts_13 rfl rfl ?_
    refine cs_getr (pc := 14) 0 0 7 (v := .ref (c + cs_va 0)) ⟨⟨by decide, by decide⟩, rfl⟩ zc_X0 ⟨rfl, rfl⟩ (by decide) rfl rfl q536 dX0_lasts_14 ?_
    refine zs_callVv (pc := 17) [.ref (c + cs_va 0)] [] (kv_xbecomes D W P h0 c M 1 (by omega) 0 (by omega)) wv_becomes q1216 zc_X5 (cs_rcvv (by omega)) dX0_lasts_17 rfl rfl (Nat.le_of_ble_eq_true rfl) (Nat.le_of_ble_eq_true rfl) (fun M2 => ?_)
    refine zs_iconst (pc := 20) (v := 0) dX0_lasts_20 rfl ?_
    refine zs_istore_n (pc := 21) (lv' := [(0, .ref (c + 0)), (1, .int a1), (2, .int 0)]) [1, 2, 0] dX0_lasts_21 rfl (by decide) rfl ?_
    refine zs_whileX (pc := 22) (fun (t22 : Int32 × cs_S) => t22.2) (fun (t22 : Int32 × cs_S) => [(0, .ref (c + 0)), (1, .int a1), (2, .int t22.1)]) 5000 (0, M2) (fun X22 hL22 hR22 t22 => ?_)
    unfold gh_lasts_L22
    refine zs_iload_n (pc := 22) 2 dX0_lasts_22 rfl rfl ?_
    refine zs_bipush (pc := 23) (v := 60) dX0_lasts_23 (by decide) ?_
    refine zs_icmp_gt (pc := 25) (tgt := 66) dX0_lasts_25 (by decide) ?_ ?_
    · refine zs_bipush (pc := 66) (v := (-2)) dX0_lasts_66 (by decide) ?_
      exact zs_iret (pc := 68) dX0_lasts_68 ((hR22 _).trans rfl) rfl rfl
    · refine zs_aload_n (pc := 28) 0 dX0_lasts_28 rfl rfl ?_
      refine cs_getr (pc := 29) 0 0 8 (v := .ref (c + cs_va 1)) ⟨⟨by decide, by decide⟩, rfl⟩ zc_X0 ⟨rfl, rfl⟩ (by decide) rfl rfl q537 dX0_lasts_29 ?_
      refine zs_aload_n (pc := 32) 0 dX0_lasts_32 rfl rfl ?_
      refine cs_getr (pc := 33) 0 0 3 (v := .ref (zt_ad W.2.1 0)) ⟨⟨by decide, by decide⟩, rfl⟩ zc_X0 ⟨rfl, rfl⟩ (by decide) rfl rfl q532 dX0_lasts_33 ?_
      refine zs_iload_n (pc := 36) 1 dX0_lasts_36 rfl rfl ?_
      refine zs_callVwI (pc := 37) [.ref (zt_ad W.2.1 0), .int a1] [] (kv_xbreaksAt D W P h0 c t22.2 1 (by omega) a1) wv_breaksAt q1252 zc_X5 (cs_rcvv (by omega)) dX0_lasts_37 rfl rfl (Nat.le_of_ble_eq_true rfl) (Nat.le_of_ble_eq_true rfl) (fun p3 => ?_)
      refine zs_if_lt (pc := 40) (tgt := 45) dX0_lasts_40 (by decide) ?_ ?_
      · refine zs_aload_n (pc := 45) 0 dX0_lasts_45 rfl rfl ?_
        refine cs_getr (pc := 46) 0 0 8 (v := .ref (c + cs_va 1)) ⟨⟨by decide, by decide⟩, rfl⟩ zc_X0 ⟨rfl, rfl⟩ (by decide) rfl rfl q537 dX0_lasts_46 ?_
        refine zs_aload_n (pc := 49) 0 dX0_lasts_49 rfl rfl ?_
        refine cs_getr (pc := 50) 0 0 3 (v := .ref (zt_ad W.2.1 0)) ⟨⟨by decide, by decide⟩, rfl⟩ zc_X0 ⟨rfl, rfl⟩ (by decide) rfl rfl q532 dX0_lasts_50 ?_
        refine zs_aload_n (pc := 53) 0 dX0_lasts_53 rfl rfl ?_
        refine cs_getr (pc := 54) 0 0 12 (v := .ref (c + cs_sk true)) ⟨⟨by decide, by decide⟩, rfl⟩ zc_X0 ⟨rfl, rfl⟩ (by decide) rfl rfl q541 dX0_lasts_54 ?_
        refine zs_callVv (pc := 57) [.ref (zt_ad W.2.1 0), .ref (c + cs_sk true)] [] (kv_xgoesBy D W P h0 c p3.2 1 (by omega) true) wv_goesBy q1272 zc_X5 (cs_rcvv (by omega)) dX0_lasts_57 rfl rfl (Nat.le_of_ble_eq_true rfl) (Nat.le_of_ble_eq_true rfl) (fun M4 => ?_)
        refine zs_iinc (pc := 60) (lv' := [(0, .ref (c + 0)), (1, .int a1), (2, .int (t22.1 + 1))]) 2 [1, 2, 0] dX0_lasts_60 rfl rfl (by decide) rfl ?_
        refine zs_goto (pc := 63) (tgt := 22) dX0_lasts_63 (by decide) ?_
        exact hL22 ((t22.1 + 1), M4)
      · refine zs_iload_n (pc := 43) 2 dX0_lasts_43 rfl rfl ?_
        exact zs_iret (pc := 44) dX0_lasts_44 ((hR22 _).trans rfl) rfl rfl
  · refine zs_iconst (pc := 7) (v := (-1)) dX0_lasts_7 rfl ?_
    exact zs_iret (pc := 8) dX0_lasts_8 rfl rfl rfl
theorem wh_givenBy : zs_mV RX0 yX0_givenBy cX0_givenBy 6 (some .int) 3 := ⟨q1316, qs39, q134, q1317, by decide, by decide +kernel⟩
def gh_givenBy_L17 (a2 : Int32) (T : zt_T) (a3 : Int32) (a1 : Int32) : (Int32 × Int32 × cs_S) → Option ((Int32 × Int32 × cs_S) ⊕ (Int32 × cs_S)) := fun t17 =>
if a2 < t17.2.1 then (some (Sum.inr (t17.1, t17.2.2)))
else ((gv_goesBy T t17.2.2 1 true).bind fun M2 =>
(zs_mod t17.2.1 a3).bind fun x3 =>
(zs_let (fun (p6 : Unit) => (zs_ald 6 (M2.2 (10 + 1) 0) a1).bind fun x7 =>
(some (t17.1 + x7)).bind fun x8 =>
(zs_ast 6 a1 (cs_sA M2 (10 + 1) 0 a1 0)).bind fun M9 =>
some (x8, M9)) fun J54 =>
if x3 = 0 then (J54 ())
else (if t17.2.1 = a2 then (J54 ())
else (some (t17.1, M2)))).bind fun (p4 : Int32 × cs_S) =>
(some p4.2).bind fun M5 =>
some (Sum.inl (p4.1, (t17.2.1 + 1), M5)))
def gh_givenBy (T : zt_T) (M : cs_S) (a1 : Int32) (a2 : Int32) (a3 : Int32) : Option (Int32 × cs_S) :=
(gv_becomes T M 1 0).bind fun M1 =>
(zs_loop 5000 (gh_givenBy_L17 a2 T a3 a1) (0, 1, M1)).bind fun z => some z
set_option maxHeartbeats 4000000 in
theorem kh_givenBy (D : zs_D) (W : cs_W) (P : Nat → Bool) (h0 : zs_AH) (c : Nat) (M : cs_S) (a1 : Int32) (a2 : Int32) (a3 : Int32) : zs_Con D (cs_R W P h0 c) cs_bd zs_eI yX0_givenBy cX0_givenBy 6 (some .int) 425 [.ref (c + 0), .int a1, .int a2, .int a3] M (gh_givenBy W.2.1 M a1 a2 a3) := by
  unfold gh_givenBy
  refine zs_con (own := RX0) (nm := "givenBy") pl_X0 rfl rfl (Nat.le_of_ble_eq_true rfl) ?_
  refine zs_lv (lv' := [(0, .ref (c + 0)), (1, .int a1), (2, .int a2), (3, .int a3)]) rfl ?_
  refine zs_iconst (pc := 0) (v := 0) dX0_givenBy_0 rfl ?_
  refine zs_istore (pc := 1) (lv' := [(0, .ref (c + 0)), (1, .int a1), (2, .int a2), (3, .int a3), (4, .int 0)]) [1, 2, 3, 4, 0] dX0_givenBy_1 (by decide) rfl ?_
  refine zs_aload_n (pc := 3) 0 dX0_givenBy_3 rfl rfl ?_
  refine cs_getr (pc := 4) 0 0 8 (v := .ref (c + cs_va 1)) ⟨⟨by decide, by decide⟩, rfl⟩ zc_X0 ⟨rfl, rfl⟩ (by decide) rfl rfl q537 dX0_givenBy_4 ?_
  refine zs_aload_n (pc := 7) 0 dX0_givenBy_7 rfl rfl ?_
  refine cs_getr (pc := 8) 0 0 7 (v := .ref (c + cs_va 0)) ⟨⟨by decide, by decide⟩, rfl⟩ zc_X0 ⟨rfl, rfl⟩ (by decide) rfl rfl q536 dX0_givenBy_8 ?_
  refine zs_callVv (pc := 11) [.ref (c + cs_va 0)] [] (kv_xbecomes D W P h0 c M 1 (by omega) 0 (by omega)) wv_becomes q1216 zc_X5 (cs_rcvv (by omega)) dX0_givenBy_11 rfl rfl (Nat.le_of_ble_eq_true rfl) (Nat.le_of_ble_eq_true rfl) (fun M1 => ?_)
  refine zs_iconst (pc := 14) (v := 1) dX0_givenBy_14 rfl ?_
  refine zs_istore (pc := 15) (lv' := [(0, .ref (c + 0)), (1, .int a1), (2, .int a2), (3, .int a3), (4, .int 0), (5, .int 1)]) [1, 2, 3, 4, 5, 0] dX0_givenBy_15 (by decide) rfl ?_
  refine zs_whileX (pc := 17) (fun (t17 : Int32 × Int32 × cs_S) => t17.2.2) (fun (t17 : Int32 × Int32 × cs_S) => [(0, .ref (c + 0)), (1, .int a1), (2, .int a2), (3, .int a3), (4, .int t17.1), (5, .int t17.2.1)]) 5000 (0, 1, M1) (fun X17 hL17 hR17 t17 => ?_)
  unfold gh_givenBy_L17
  refine zs_iload (pc := 17) 5 dX0_givenBy_17 rfl ?_
  refine zs_iload_n (pc := 19) 2 dX0_givenBy_19 rfl rfl ?_
  refine zs_icmp_gt (pc := 20) (tgt := 84) dX0_givenBy_20 (by decide) ?_ ?_
  · refine zs_iload (pc := 84) 4 dX0_givenBy_84 rfl ?_
    exact zs_iret (pc := 86) dX0_givenBy_86 ((hR17 _).trans rfl) rfl rfl
  · refine zs_aload_n (pc := 23) 0 dX0_givenBy_23 rfl rfl ?_
    refine cs_getr (pc := 24) 0 0 8 (v := .ref (c + cs_va 1)) ⟨⟨by decide, by decide⟩, rfl⟩ zc_X0 ⟨rfl, rfl⟩ (by decide) rfl rfl q537 dX0_givenBy_24 ?_
    refine zs_aload_n (pc := 27) 0 dX0_givenBy_27 rfl rfl ?_
    refine cs_getr (pc := 28) 0 0 3 (v := .ref (zt_ad W.2.1 0)) ⟨⟨by decide, by decide⟩, rfl⟩ zc_X0 ⟨rfl, rfl⟩ (by decide) rfl rfl q532 dX0_givenBy_28 ?_
    refine zs_aload_n (pc := 31) 0 dX0_givenBy_31 rfl rfl ?_
    refine cs_getr (pc := 32) 0 0 12 (v := .ref (c + cs_sk true)) ⟨⟨by decide, by decide⟩, rfl⟩ zc_X0 ⟨rfl, rfl⟩ (by decide) rfl rfl q541 dX0_givenBy_32 ?_
    refine zs_callVv (pc := 35) [.ref (zt_ad W.2.1 0), .ref (c + cs_sk true)] [] (kv_xgoesBy D W P h0 c t17.2.2 1 (by omega) true) wv_goesBy q1272 zc_X5 (cs_rcvv (by omega)) dX0_givenBy_35 rfl rfl (Nat.le_of_ble_eq_true rfl) (Nat.le_of_ble_eq_true rfl) (fun M2 => ?_)
    refine zs_iload (pc := 38) 5 dX0_givenBy_38 rfl ?_
    refine zs_iload_n (pc := 40) 3 dX0_givenBy_40 rfl rfl ?_
    refine zs_irem (pc := 41) dX0_givenBy_41 (fun x3 => ?_)
    refine zs_join (pc := 42) (fun (p4 : Int32 × cs_S) => p4.2) 78 (fun (p4 : Int32 × cs_S) => [(0, .ref (c + 0)), (1, .int a1), (2, .int a2), (3, .int a3), (4, .int p4.1), (5, .int t17.2.1)]) (fun (p4 : Int32 × cs_S) => []) (fun p4 => ?_) (fun h78 => ?_)
    · refine zs_iinc (pc := 78) (lv' := [(0, .ref (c + 0)), (1, .int a1), (2, .int a2), (3, .int a3), (4, .int p4.1), (5, .int (t17.2.1 + 1))]) 5 [1, 2, 3, 4, 5, 0] dX0_givenBy_78 rfl rfl (by decide) rfl ?_
      refine zs_goto (pc := 81) (tgt := 17) dX0_givenBy_81 (by decide) ?_
      refine zs_nmM (fun M5 => ?_)
      exact hL17 (p4.1, (t17.2.1 + 1), M5)
    · refine zs_letJ (pc := 42) (fun (p6 : Unit) => M2) 54 (fun (p6 : Unit) => [(0, .ref (c + 0)), (1, .int a1), (2, .int a2), (3, .int a3), (4, .int t17.1), (5, .int t17.2.1)]) (fun (p6 : Unit) => []) (fun p6 => ?_) (fun J54 h54 => ?_)
      · refine zs_iload (pc := 54) 4 dX0_givenBy_54 rfl ?_
        refine zs_aload_n (pc := 56) 0 dX0_givenBy_56 rfl rfl ?_
        refine cs_getr (pc := 57) 0 0 8 (v := .ref (c + cs_va 1)) ⟨⟨by decide, by decide⟩, rfl⟩ zc_X0 ⟨rfl, rfl⟩ (by decide) rfl rfl q537 dX0_givenBy_57 ?_
        refine cs_getr (pc := 60) (cs_va 1) (10 + 1) 0 (v := .ref (c + (cs_va 1 + 1))) (cs_pv (by omega)) zc_X5 (cs_vcl (by omega)) (by decide) (cs_vsc (by omega) 0 false (by decide)) (cs_vcv (by omega) 0 1 (by decide)) q440 dX0_givenBy_60 ?_
        refine zs_iload_n (pc := 63) 1 dX0_givenBy_63 rfl rfl ?_
        refine cs_iald (pc := 64) (cs_va 1 + 1) (10 + 1) 0 (cs_pva (by omega) 1 (by decide) 6 rfl) dX0_givenBy_64 (fun x7 => ?_)
        refine zs_iadd (pc := 65) dX0_givenBy_65 ?_
        refine zs_nm (fun x8 => ?_)
        refine zs_istore (pc := 66) (lv' := [(0, .ref (c + 0)), (1, .int a1), (2, .int a2), (3, .int a3), (4, .int x8), (5, .int t17.2.1)]) [1, 2, 3, 4, 0, 5] dX0_givenBy_66 (by decide) rfl ?_
        refine zs_aload_n (pc := 68) 0 dX0_givenBy_68 rfl rfl ?_
        refine cs_getr (pc := 69) 0 0 8 (v := .ref (c + cs_va 1)) ⟨⟨by decide, by decide⟩, rfl⟩ zc_X0 ⟨rfl, rfl⟩ (by decide) rfl rfl q537 dX0_givenBy_69 ?_
        refine cs_getr (pc := 72) (cs_va 1) (10 + 1) 0 (v := .ref (c + (cs_va 1 + 1))) (cs_pv (by omega)) zc_X5 (cs_vcl (by omega)) (by decide) (cs_vsc (by omega) 0 false (by decide)) (cs_vcv (by omega) 0 1 (by decide)) q440 dX0_givenBy_72 ?_
        refine zs_iload_n (pc := 75) 1 dX0_givenBy_75 rfl rfl ?_
        refine zs_iconst (pc := 76) (v := 0) dX0_givenBy_76 rfl ?_
        refine cs_iast (pc := 77) (cs_va 1 + 1) (10 + 1) 0 (cs_pva (by omega) 1 (by decide) 6 rfl) dX0_givenBy_77 (fun M9 => ?_)
        exact h78 (x8, M9)
      · refine zs_if_eq (pc := 42) (tgt := 54) dX0_givenBy_42 (by decide) ?_ ?_
        · exact h54 ()
        · refine zs_iload (pc := 45) 5 dX0_givenBy_45 rfl ?_
          refine zs_iload_n (pc := 47) 2 dX0_givenBy_47 rfl rfl ?_
          refine zs_icmp_eq (pc := 48) (tgt := 54) dX0_givenBy_48 (by decide) ?_ ?_
          · exact h54 ()
          · refine zs_goto (pc := 51) (tgt := 78) dX0_givenBy_51 (by decide) ?_
            exact h78 (t17.1, M2)
theorem wh_harvest : zs_mV RX0 yX0_harvest cX0_harvest 8 (some .int) 3 := ⟨q1311, q1312, q134, q1313, by decide, by decide +kernel⟩
def gh_harvest_L38 (a2 : Int32) (T : zt_T) (a1 : Int32) : (Int32 × Int32 × Int32 × cs_S) → Option ((Int32 × Int32 × Int32 × cs_S) ⊕ (Int32 × Int32 × cs_S)) := fun t38 =>
if a2 < t38.2.2.1 then (some (Sum.inr (t38.1, t38.2.1, t38.2.2.2)))
else ((gh_givenBy T t38.2.2.2 a1 a2 t38.2.2.1).bind fun p4 =>
(if t38.2.1 < p4.1 then (some (t38.2.2.1, p4.1))
else (some (t38.1, t38.2.1))).bind fun (p5 : Int32 × Int32) =>
(some p4.2).bind fun M6 =>
some (Sum.inl (p5.1, p5.2, (t38.2.2.1 + 1), M6)))
def gh_harvest (T : zt_T) (M : cs_S) (a1 : Int32) (a2 : Int32) (a3 : Int32) : Option (Int32 × cs_S) :=
(gh_isHouse T M a1).bind fun b1 =>
if b1 = true then ((gh_isIn a2 1 60).bind fun b2 =>
if b2 = true then ((gh_isIn a3 0 1).bind fun b3 =>
if b3 = true then ((zs_loop 5000 (gh_harvest_L38 a2 T a1) (0, (-1), 1, M)).bind fun (r7 : Int32 × Int32 × cs_S) =>
if a3 = 0 then (some (r7.1, r7.2.2))
else (some (r7.2.1, r7.2.2)))
else (some ((-1), M)))
else (some ((-1), M)))
else (some ((-1), M))
set_option maxHeartbeats 4000000 in
theorem kh_harvest (D : zs_D) (W : cs_W) (P : Nat → Bool) (h0 : zs_AH) (c : Nat) (M : cs_S) (a1 : Int32) (a2 : Int32) (a3 : Int32) : zs_Con D (cs_R W P h0 c) cs_bd zs_eI yX0_harvest cX0_harvest 8 (some .int) 426 [.ref (c + 0), .int a1, .int a2, .int a3] M (gh_harvest W.2.1 M a1 a2 a3) := by
  unfold gh_harvest
  refine zs_con (own := RX0) (nm := "harvest") pl_X0 rfl rfl (Nat.le_of_ble_eq_true rfl) ?_
  refine zs_lv (lv' := [(0, .ref (c + 0)), (1, .int a1), (2, .int a2), (3, .int a3)]) rfl ?_
  refine zs_aload_n (pc := 0) 0 dX0_harvest_0 rfl rfl ?_
  refine zs_iload_n (pc := 1) 1 dX0_harvest_1 rfl rfl ?_
  refine zs_callVrB (pc := 2) [.int a1] [] (kh_isHouse D W P h0 c M a1) wh_isHouse q1120 zc_X0 cs_rcv0 dX0_harvest_2 rfl rfl (Nat.le_of_ble_eq_true rfl) (Nat.le_of_ble_eq_true rfl) (fun b1 => ?_)
  refine zs_if_f (pc := 5) (tgt := 27) dX0_harvest_5 (by decide) ?_ ?_
  · refine zs_iload_n (pc := 8) 2 dX0_harvest_8 rfl rfl ?_
    refine zs_iconst (pc := 9) (v := 1) dX0_harvest_9 rfl ?_
    refine zs_bipush (pc := 10) (v := 60) dX0_harvest_10 (by decide) ?_
    refine zs_callSrB (pc := 12) [.int a2, .int 1, .int 60] [] (kh_isIn D _ _ M a2 1 60) wh_isIn q1129 dX0_harvest_12 rfl rfl (Nat.le_of_ble_eq_true rfl) (Nat.le_of_ble_eq_true rfl) (fun b2 => ?_)
    refine zs_if_f (pc := 15) (tgt := 27) dX0_harvest_15 (by decide) ?_ ?_
    · refine zs_iload_n (pc := 18) 3 dX0_harvest_18 rfl rfl ?_
      refine zs_iconst (pc := 19) (v := 0) dX0_harvest_19 rfl ?_
      refine zs_iconst (pc := 20) (v := 1) dX0_harvest_20 rfl ?_
      refine zs_callSrB (pc := 21) [.int a3, .int 0, .int 1] [] (kh_isIn D _ _ M a3 0 1) wh_isIn q1129 dX0_harvest_21 rfl rfl (Nat.le_of_ble_eq_true rfl) (Nat.le_of_ble_eq_true rfl) (fun b3 => ?_)
      refine zs_if_t (pc := 24) (tgt := 29) dX0_harvest_24 (by decide) ?_ ?_
      · refine zs_iconst (pc := 29) (v := 0) dX0_harvest_29 rfl ?_
        refine zs_istore (pc := 30) (lv' := [(0, .ref (c + 0)), (1, .int a1), (2, .int a2), (3, .int a3), (4, .int 0)]) [1, 2, 3, 4, 0] dX0_harvest_30 (by decide) rfl ?_
        refine zs_iconst (pc := 32) (v := (-1)) dX0_harvest_32 rfl ?_
        refine zs_istore (pc := 33) (lv' := [(0, .ref (c + 0)), (1, .int a1), (2, .int a2), (3, .int a3), (4, .int 0), (5, .int (-1))]) [1, 2, 3, 4, 5, 0] dX0_harvest_33 (by decide) rfl ?_
        refine zs_iconst (pc := 35) (v := 1) dX0_harvest_35 rfl ?_
        refine zs_istore (pc := 36) (lv' := [(0, .ref (c + 0)), (1, .int a1), (2, .int a2), (3, .int a3), (4, .int 0), (5, .int (-1)), (6, .int 1)]) [1, 2, 3, 4, 5, 6, 0] dX0_harvest_36 (by decide) rfl ?_
        refine zs_whileJ (pc := 38) (fun (t38 : Int32 × Int32 × Int32 × cs_S) => t38.2.2.2) (fun (t38 : Int32 × Int32 × Int32 × cs_S) => [(0, .ref (c + 0)), (1, .int a1), (2, .int a2), (3, .int a3), (4, .int t38.1), (5, .int t38.2.1), (6, .int t38.2.2.1)]) 5000 (0, (-1), 1, M) (fun (r7 : Int32 × Int32 × cs_S) => r7.2.2) 78 (fun (r7 : Int32 × Int32 × cs_S) => [(3, .int a3), (4, .int r7.1), (5, .int r7.2.1)]) [] (fun r7 => ?_) (fun X38 hL38 hE38 t38 => ?_)
        · refine zs_iload_n (pc := 78) 0 dX0_harvest_78 rfl rfl ?_
          refine zs_if_ne (pc := 79) (tgt := 87) dX0_harvest_79 (by decide) ?_ ?_
          · refine zs_iload (pc := 82) 1 dX0_harvest_82 rfl ?_
            refine zs_goto (pc := 84) (tgt := 89) dX0_harvest_84 (by decide) ?_
            exact zs_iret (pc := 89) dX0_harvest_89 rfl rfl rfl
          · refine zs_iload (pc := 87) 2 dX0_harvest_87 rfl ?_
            exact zs_iret (pc := 89) dX0_harvest_89 rfl rfl rfl
        · unfold gh_harvest_L38
          refine zs_iload (pc := 38) 6 dX0_harvest_38 rfl ?_
          refine zs_iload_n (pc := 40) 2 dX0_harvest_40 rfl rfl ?_
          refine zs_icmp_gt (pc := 41) (tgt := 78) dX0_harvest_41 (by decide) ?_ ?_
          · refine zs_sub (lv' := [(3, .int a3), (4, .int t38.1), (5, .int t38.2.1)]) [3, 4, 5] rfl ?_
            exact hE38 (t38.1, t38.2.1, t38.2.2.2)
          · refine zs_aload_n (pc := 44) 0 dX0_harvest_44 rfl rfl ?_
            refine zs_iload_n (pc := 45) 1 dX0_harvest_45 rfl rfl ?_
            refine zs_iload_n (pc := 46) 2 dX0_harvest_46 rfl rfl ?_
            refine zs_iload (pc := 47) 6 dX0_harvest_47 rfl ?_
            refine zs_callVwI (pc := 49) [.int a1, .int a2, .int t38.2.2.1] [] (kh_givenBy D W P h0 c t38.2.2.2 a1 a2 t38.2.2.1) wh_givenBy q1314 zc_X0 cs_rcv0 dX0_harvest_49 rfl rfl (Nat.le_of_ble_eq_true rfl) (Nat.le_of_ble_eq_true rfl) (fun p4 => ?_)
            refine zs_istore (pc := 52) (lv' := [(0, .ref (c + 0)), (1, .int a1), (2, .int a2), (3, .int a3), (4, .int t38.1), (5, .int t38.2.1), (6, .int t38.2.2.1), (7, .int p4.1)]) [1, 2, 3, 4, 5, 6, 7, 0] dX0_harvest_52 (by decide) rfl ?_
            refine zs_iload (pc := 54) 7 dX0_harvest_54 rfl ?_
            refine zs_iload (pc := 56) 5 dX0_harvest_56 rfl ?_
            refine zs_join (pc := 58) (fun (p5 : Int32 × Int32) => p4.2) 72 (fun (p5 : Int32 × Int32) => [(0, .ref (c + 0)), (1, .int a1), (2, .int a2), (3, .int a3), (4, .int p5.1), (5, .int p5.2), (6, .int t38.2.2.1)]) (fun (p5 : Int32 × Int32) => []) (fun p5 => ?_) (fun h72 => ?_)
            · refine zs_iinc (pc := 72) (lv' := [(0, .ref (c + 0)), (1, .int a1), (2, .int a2), (3, .int a3), (4, .int p5.1), (5, .int p5.2), (6, .int (t38.2.2.1 + 1))]) 6 [1, 2, 3, 4, 5, 6, 0] dX0_harvest_72 rfl rfl (by decide) rfl ?_
              refine zs_goto (pc := 75) (tgt := 38) dX0_harvest_75 (by decide) ?_
              refine zs_nmM (fun M6 => ?_)
              exact hL38 (p5.1, p5.2, (t38.2.2.1 + 1), M6)
            · refine zs_icmp_gt (pc := 58) (tgt := 64) dX0_harvest_58 (by decide) ?_ ?_
              · refine zs_iload (pc := 64) 6 dX0_harvest_64 rfl ?_
                refine zs_istore (pc := 66) (lv' := [(0, .ref (c + 0)), (1, .int a1), (2, .int a2), (3, .int a3), (4, .int t38.2.2.1), (5, .int t38.2.1), (6, .int t38.2.2.1), (7, .int p4.1)]) [1, 2, 3, 4, 0, 5, 6, 7] dX0_harvest_66 (by decide) rfl ?_
                refine zs_iload (pc := 68) 7 dX0_harvest_68 rfl ?_
                refine zs_istore (pc := 70) (lv' := [(0, .ref (c + 0)), (1, .int a1), (2, .int a2), (3, .int a3), (4, .int t38.2.2.1), (5, .int p4.1), (6, .int t38.2.2.1), (7, .int p4.1)]) [1, 2, 3, 4, 5, 0, 6, 7] dX0_harvest_70 (by decide) rfl ?_
                refine zs_sub (lv' := [(0, .ref (c + 0)), (1, .int a1), (2, .int a2), (3, .int a3), (4, .int t38.2.2.1), (5, .int p4.1), (6, .int t38.2.2.1)]) [0, 1, 2, 3, 4, 5, 6] rfl ?_
                exact h72 (t38.2.2.1, p4.1)
              · refine zs_goto (pc := 61) (tgt := 72) dX0_harvest_61 (by decide) ?_
                refine zs_sub (lv' := [(0, .ref (c + 0)), (1, .int a1), (2, .int a2), (3, .int a3), (4, .int t38.1), (5, .int t38.2.1), (6, .int t38.2.2.1)]) [0, 1, 2, 3, 4, 5, 6] rfl ?_
                exact h72 (t38.1, t38.2.1)
      · refine zs_iconst (pc := 27) (v := (-1)) dX0_harvest_27 rfl ?_
        exact zs_iret (pc := 28) dX0_harvest_28 rfl rfl rfl
    · refine zs_iconst (pc := 27) (v := (-1)) dX0_harvest_27 rfl ?_
      exact zs_iret (pc := 28) dX0_harvest_28 rfl rfl rfl
  · refine zs_iconst (pc := 27) (v := (-1)) dX0_harvest_27 rfl ?_
    exact zs_iret (pc := 28) dX0_harvest_28 rfl rfl rfl
theorem wh_swap : zs_mV RX0 yX0_swap cX0_swap 5 (some .int) 0 := ⟨q1319, q1320, q134, q1321, by decide, by decide +kernel⟩
def gh_swap_L26 (T : zt_T) (t10 : Int32 × Int32 × Int32 × cs_S) : (Int32 × Int32 × Int32 × cs_S) → Option ((Int32 × Int32 × Int32 × cs_S) ⊕ (Int32 × Int32 × cs_S)) := fun t26 =>
if t26.2.2.1 < (t26.2.2.2.1 (10 + 0) 5) then ((gv_becomes T t26.2.2.2 1 0).bind fun M3 =>
(zs_ald 6 (M3.2 (10 + 0) 4) t26.2.2.1).bind fun x4 =>
(zs_ast 6 t10.2.2.1 (cs_sA M3 (10 + 1) 4 t10.2.2.1 x4)).bind fun M5 =>
(zs_ald 6 (M5.2 (10 + 0) 4) t10.2.2.1).bind fun x6 =>
(zs_ast 6 t26.2.2.1 (cs_sA M5 (10 + 1) 4 t26.2.2.1 x6)).bind fun M7 =>
(gh_mostOf T M7 1).bind fun p8 =>
(if t26.2.1 < p8.1 then ((some ((10 * t10.2.2.1) + t26.2.2.1)).bind fun x11 =>
(gh_mostOf T p8.2 1).bind fun p12 =>
some (x11, p12.1, p12.2))
else (some (t26.1, t26.2.1, p8.2))).bind fun (p9 : Int32 × Int32 × cs_S) =>
(some p9.2.2).bind fun M10 =>
some (Sum.inl (p9.1, p9.2.1, (t26.2.2.1 + 1), M10)))
else (some (Sum.inr (t26.1, t26.2.1, t26.2.2.2)))
def gh_swap_L10 (T : zt_T) : (Int32 × Int32 × Int32 × cs_S) → Option ((Int32 × Int32 × Int32 × cs_S) ⊕ (Int32 × cs_S)) := fun t10 =>
if t10.2.2.1 < (t10.2.2.2.1 (10 + 0) 5) then ((some (t10.2.2.1 + 1)).bind fun x2 =>
(zs_loop 5000 (gh_swap_L26 T t10) (t10.1, t10.2.1, x2, t10.2.2.2)).bind fun (r13 : Int32 × Int32 × cs_S) =>
(some r13.2.2).bind fun M14 =>
some (Sum.inl (r13.1, r13.2.1, (t10.2.2.1 + 1), M14)))
else (some (Sum.inr (t10.1, t10.2.2.2)))
def gh_swap (T : zt_T) (M : cs_S) : Option (Int32 × cs_S) :=
(gh_most T M).bind fun p1 =>
(zs_loop 5000 (gh_swap_L10 T) ((-2), p1.1, 0, p1.2)).bind fun z => some z
set_option maxHeartbeats 4000000 in
theorem kh_swap (D : zs_D) (W : cs_W) (P : Nat → Bool) (h0 : zs_AH) (c : Nat) (M : cs_S) : zs_Con D (cs_R W P h0 c) cs_bd zs_eI yX0_swap cX0_swap 5 (some .int) 427 [.ref (c + 0)] M (gh_swap W.2.1 M) := by
  unfold gh_swap
  refine zs_con (own := RX0) (nm := "swap") pl_X0 rfl rfl (Nat.le_of_ble_eq_true rfl) ?_
  refine zs_lv (lv' := [(0, .ref (c + 0))]) rfl ?_
  refine zs_bipush (pc := 0) (v := (-2)) dX0_swap_0 (by decide) ?_
  refine zs_istore_n (pc := 2) (lv' := [(0, .ref (c + 0)), (1, .int (-2))]) [1, 0] dX0_swap_2 rfl (by decide) rfl ?_
  refine zs_aload_n (pc := 3) 0 dX0_swap_3 rfl rfl ?_
  refine zs_callVwI (pc := 4) [] [] (kh_most D W P h0 c M) wh_most q1322 zc_X0 cs_rcv0 dX0_swap_4 rfl rfl (Nat.le_of_ble_eq_true rfl) (Nat.le_of_ble_eq_true rfl) (fun p1 => ?_)
  refine zs_istore_n (pc := 7) (lv' := [(0, .ref (c + 0)), (1, .int (-2)), (2, .int p1.1)]) [1, 2, 0] dX0_swap_7 rfl (by decide) rfl ?_
  refine zs_iconst (pc := 8) (v := 0) dX0_swap_8 rfl ?_
  refine zs_istore_n (pc := 9) (lv' := [(0, .ref (c + 0)), (1, .int (-2)), (2, .int p1.1), (3, .int 0)]) [1, 2, 3, 0] dX0_swap_9 rfl (by decide) rfl ?_
  refine zs_whileX (pc := 10) (fun (t10 : Int32 × Int32 × Int32 × cs_S) => t10.2.2.2) (fun (t10 : Int32 × Int32 × Int32 × cs_S) => [(0, .ref (c + 0)), (1, .int t10.1), (2, .int t10.2.1), (3, .int t10.2.2.1)]) 5000 ((-2), p1.1, 0, p1.2) (fun X10 hL10 hR10 t10 => ?_)
  unfold gh_swap_L10
  refine zs_iload_n (pc := 10) 3 dX0_swap_10 rfl rfl ?_
  refine zs_aload_n (pc := 11) 0 dX0_swap_11 rfl rfl ?_
  refine cs_getr (pc := 12) 0 0 7 (v := .ref (c + cs_va 0)) ⟨⟨by decide, by decide⟩, rfl⟩ zc_X0 ⟨rfl, rfl⟩ (by decide) rfl rfl q536 dX0_swap_12 ?_
  refine cs_geti (pc := 15) (cs_va 0) (10 + 0) 5 (cs_pv (by omega)) zc_X5 (cs_vcl (by omega)) (by decide) (cs_vsc (by omega) 5 true (by decide)) q450 dX0_swap_15 ?_
  refine zs_icmp_ge (pc := 18) (tgt := 131) dX0_swap_18 (by decide) ?_ ?_
  · refine zs_iload_n (pc := 21) 3 dX0_swap_21 rfl rfl ?_
    refine zs_iconst (pc := 22) (v := 1) dX0_swap_22 rfl ?_
    refine zs_iadd (pc := 23) dX0_swap_23 ?_
    refine zs_nm (fun x2 => ?_)
    refine zs_istore (pc := 24) (lv' := [(0, .ref (c + 0)), (1, .int t10.1), (2, .int t10.2.1), (3, .int t10.2.2.1), (4, .int x2)]) [1, 2, 3, 4, 0] dX0_swap_24 (by decide) rfl ?_
    refine zs_whileJ (pc := 26) (fun (t26 : Int32 × Int32 × Int32 × cs_S) => t26.2.2.2) (fun (t26 : Int32 × Int32 × Int32 × cs_S) => [(0, .ref (c + 0)), (1, .int t26.1), (2, .int t26.2.1), (3, .int t10.2.2.1), (4, .int t26.2.2.1)]) 5000 (t10.1, t10.2.1, x2, t10.2.2.2) (fun (r13 : Int32 × Int32 × cs_S) => r13.2.2) 125 (fun (r13 : Int32 × Int32 × cs_S) => [(0, .ref (c + 0)), (1, .int r13.1), (2, .int r13.2.1), (3, .int t10.2.2.1)]) [] (fun r13 => ?_) (fun X26 hL26 hE26 t26 => ?_)
    · refine zs_iinc (pc := 125) (lv' := [(0, .ref (c + 0)), (1, .int r13.1), (2, .int r13.2.1), (3, .int (t10.2.2.1 + 1))]) 3 [1, 2, 3, 0] dX0_swap_125 rfl rfl (by decide) rfl ?_
      refine zs_goto (pc := 128) (tgt := 10) dX0_swap_128 (by decide) ?_
      refine zs_nmM (fun M14 => ?_)
      exact hL10 (r13.1, r13.2.1, (t10.2.2.1 + 1), M14)
    · unfold gh_swap_L26
      refine zs_iload (pc := 26) 4 dX0_swap_26 rfl ?_
      refine zs_aload_n (pc := 28) 0 dX0_swap_28 rfl rfl ?_
      refine cs_getr (pc := 29) 0 0 7 (v := .ref (c + cs_va 0)) ⟨⟨by decide, by decide⟩, rfl⟩ zc_X0 ⟨rfl, rfl⟩ (by decide) rfl rfl q536 dX0_swap_29 ?_
      refine cs_geti (pc := 32) (cs_va 0) (10 + 0) 5 (cs_pv (by omega)) zc_X5 (cs_vcl (by omega)) (by decide) (cs_vsc (by omega) 5 true (by decide)) q450 dX0_swap_32 ?_
      refine zs_icmp_ge (pc := 35) (tgt := 125) dX0_swap_35 (by decide) ?_ ?_
      · refine zs_aload_n (pc := 38) 0 dX0_swap_38 rfl rfl ?_
        refine cs_getr (pc := 39) 0 0 8 (v := .ref (c + cs_va 1)) ⟨⟨by decide, by decide⟩, rfl⟩ zc_X0 ⟨rfl, rfl⟩ (by decide) rfl rfl q537 dX0_swap_39 ?_
        refine zs_aload_n (pc := 42) 0 dX0_swap_42 rfl rfl ?_
        refine cs_getr (pc := 43) 0 0 7 (v := .ref (c + cs_va 0)) ⟨⟨by decide, by decide⟩, rfl⟩ zc_X0 ⟨rfl, rfl⟩ (by decide) rfl rfl q536 dX0_swap_43 ?_
        refine zs_callVv (pc := 46) [.ref (c + cs_va 0)] [] (kv_xbecomes D W P h0 c t26.2.2.2 1 (by omega) 0 (by omega)) wv_becomes q1216 zc_X5 (cs_rcvv (by omega)) dX0_swap_46 rfl rfl (Nat.le_of_ble_eq_true rfl) (Nat.le_of_ble_eq_true rfl) (fun M3 => ?_)
        refine zs_aload_n (pc := 49) 0 dX0_swap_49 rfl rfl ?_
        refine cs_getr (pc := 50) 0 0 8 (v := .ref (c + cs_va 1)) ⟨⟨by decide, by decide⟩, rfl⟩ zc_X0 ⟨rfl, rfl⟩ (by decide) rfl rfl q537 dX0_swap_50 ?_
        refine cs_getr (pc := 53) (cs_va 1) (10 + 1) 4 (v := .ref (c + (cs_va 1 + 5))) (cs_pv (by omega)) zc_X5 (cs_vcl (by omega)) (by decide) (cs_vsc (by omega) 4 false (by decide)) (cs_vcv (by omega) 4 5 (by decide)) q448 dX0_swap_53 ?_
        refine zs_iload_n (pc := 56) 3 dX0_swap_56 rfl rfl ?_
        refine zs_aload_n (pc := 57) 0 dX0_swap_57 rfl rfl ?_
        refine cs_getr (pc := 58) 0 0 7 (v := .ref (c + cs_va 0)) ⟨⟨by decide, by decide⟩, rfl⟩ zc_X0 ⟨rfl, rfl⟩ (by decide) rfl rfl q536 dX0_swap_58 ?_
        refine cs_getr (pc := 61) (cs_va 0) (10 + 0) 4 (v := .ref (c + (cs_va 0 + 5))) (cs_pv (by omega)) zc_X5 (cs_vcl (by omega)) (by decide) (cs_vsc (by omega) 4 false (by decide)) (cs_vcv (by omega) 4 5 (by decide)) q448 dX0_swap_61 ?_
        refine zs_iload (pc := 64) 4 dX0_swap_64 rfl ?_
        refine cs_iald (pc := 66) (cs_va 0 + 5) (10 + 0) 4 (cs_pva (by omega) 5 (by decide) 6 rfl) dX0_swap_66 (fun x4 => ?_)
        refine cs_iast (pc := 67) (cs_va 1 + 5) (10 + 1) 4 (cs_pva (by omega) 5 (by decide) 6 rfl) dX0_swap_67 (fun M5 => ?_)
        refine zs_aload_n (pc := 68) 0 dX0_swap_68 rfl rfl ?_
        refine cs_getr (pc := 69) 0 0 8 (v := .ref (c + cs_va 1)) ⟨⟨by decide, by decide⟩, rfl⟩ zc_X0 ⟨rfl, rfl⟩ (by decide) rfl rfl q537 dX0_swap_69 ?_
        refine cs_getr (pc := 72) (cs_va 1) (10 + 1) 4 (v := .ref (c + (cs_va 1 + 5))) (cs_pv (by omega)) zc_X5 (cs_vcl (by omega)) (by decide) (cs_vsc (by omega) 4 false (by decide)) (cs_vcv (by omega) 4 5 (by decide)) q448 dX0_swap_72 ?_
        refine zs_iload (pc := 75) 4 dX0_swap_75 rfl ?_
        refine zs_aload_n (pc := 77) 0 dX0_swap_77 rfl rfl ?_
        refine cs_getr (pc := 78) 0 0 7 (v := .ref (c + cs_va 0)) ⟨⟨by decide, by decide⟩, rfl⟩ zc_X0 ⟨rfl, rfl⟩ (by decide) rfl rfl q536 dX0_swap_78 ?_
        refine cs_getr (pc := 81) (cs_va 0) (10 + 0) 4 (v := .ref (c + (cs_va 0 + 5))) (cs_pv (by omega)) zc_X5 (cs_vcl (by omega)) (by decide) (cs_vsc (by omega) 4 false (by decide)) (cs_vcv (by omega) 4 5 (by decide)) q448 dX0_swap_81 ?_
        refine zs_iload_n (pc := 84) 3 dX0_swap_84 rfl rfl ?_
        refine cs_iald (pc := 85) (cs_va 0 + 5) (10 + 0) 4 (cs_pva (by omega) 5 (by decide) 6 rfl) dX0_swap_85 (fun x6 => ?_)
        refine cs_iast (pc := 86) (cs_va 1 + 5) (10 + 1) 4 (cs_pva (by omega) 5 (by decide) 6 rfl) dX0_swap_86 (fun M7 => ?_)
        refine zs_aload_n (pc := 87) 0 dX0_swap_87 rfl rfl ?_
        refine zs_aload_n (pc := 88) 0 dX0_swap_88 rfl rfl ?_
        refine cs_getr (pc := 89) 0 0 8 (v := .ref (c + cs_va 1)) ⟨⟨by decide, by decide⟩, rfl⟩ zc_X0 ⟨rfl, rfl⟩ (by decide) rfl rfl q537 dX0_swap_89 ?_
        refine zs_callVwI (pc := 92) [.ref (c + cs_va 1)] [] (kh_mostOf D W P h0 c M7 1 (by omega)) wh_mostOf q1302 zc_X0 cs_rcv0 dX0_swap_92 rfl rfl (Nat.le_of_ble_eq_true rfl) (Nat.le_of_ble_eq_true rfl) (fun p8 => ?_)
        refine zs_iload_n (pc := 95) 2 dX0_swap_95 rfl rfl ?_
        refine zs_join (pc := 96) (fun (p9 : Int32 × Int32 × cs_S) => p9.2.2) 119 (fun (p9 : Int32 × Int32 × cs_S) => [(0, .ref (c + 0)), (1, .int p9.1), (2, .int p9.2.1), (3, .int t10.2.2.1), (4, .int t26.2.2.1)]) (fun (p9 : Int32 × Int32 × cs_S) => []) (fun p9 => ?_) (fun h119 => ?_)
        · refine zs_iinc (pc := 119) (lv' := [(0, .ref (c + 0)), (1, .int p9.1), (2, .int p9.2.1), (3, .int t10.2.2.1), (4, .int (t26.2.2.1 + 1))]) 4 [1, 2, 3, 4, 0] dX0_swap_119 rfl rfl (by decide) rfl ?_
          refine zs_goto (pc := 122) (tgt := 26) dX0_swap_122 (by decide) ?_
          refine zs_nmM (fun M10 => ?_)
          exact hL26 (p9.1, p9.2.1, (t26.2.2.1 + 1), M10)
        · refine zs_icmp_gt (pc := 96) (tgt := 102) dX0_swap_96 (by decide) ?_ ?_
          · refine zs_bipush (pc := 102) (v := 10) dX0_swap_102 (by decide) ?_
            refine zs_iload_n (pc := 104) 3 dX0_swap_104 rfl rfl ?_
            refine zs_imul (pc := 105) dX0_swap_105 ?_
            refine zs_iload (pc := 106) 4 dX0_swap_106 rfl ?_
            refine zs_iadd (pc := 108) dX0_swap_108 ?_
            refine zs_nm (fun x11 => ?_)
            refine zs_istore_n (pc := 109) (lv' := [(0, .ref (c + 0)), (1, .int x11), (2, .int t26.2.1), (3, .int t10.2.2.1), (4, .int t26.2.2.1)]) [1, 0, 2, 3, 4] dX0_swap_109 rfl (by decide) rfl ?_
            refine zs_aload_n (pc := 110) 0 dX0_swap_110 rfl rfl ?_
            refine zs_aload_n (pc := 111) 0 dX0_swap_111 rfl rfl ?_
            refine cs_getr (pc := 112) 0 0 8 (v := .ref (c + cs_va 1)) ⟨⟨by decide, by decide⟩, rfl⟩ zc_X0 ⟨rfl, rfl⟩ (by decide) rfl rfl q537 dX0_swap_112 ?_
            refine zs_callVwI (pc := 115) [.ref (c + cs_va 1)] [] (kh_mostOf D W P h0 c p8.2 1 (by omega)) wh_mostOf q1302 zc_X0 cs_rcv0 dX0_swap_115 rfl rfl (Nat.le_of_ble_eq_true rfl) (Nat.le_of_ble_eq_true rfl) (fun p12 => ?_)
            refine zs_istore_n (pc := 118) (lv' := [(0, .ref (c + 0)), (1, .int x11), (2, .int p12.1), (3, .int t10.2.2.1), (4, .int t26.2.2.1)]) [1, 2, 0, 3, 4] dX0_swap_118 rfl (by decide) rfl ?_
            exact h119 (x11, p12.1, p12.2)
          · refine zs_goto (pc := 99) (tgt := 119) dX0_swap_99 (by decide) ?_
            exact h119 (t26.1, t26.2.1, p8.2)
      · refine zs_sub (lv' := [(0, .ref (c + 0)), (1, .int t26.1), (2, .int t26.2.1), (3, .int t10.2.2.1)]) [0, 1, 2, 3] rfl ?_
        exact hE26 (t26.1, t26.2.1, t26.2.2.2)
  · refine zs_iload_n (pc := 131) 1 dX0_swap_131 rfl rfl ?_
    exact zs_iret (pc := 132) dX0_swap_132 ((hR10 _).trans rfl) rfl rfl
theorem wh_joinAt : zs_mV RX0 yX0_joinAt cX0_joinAt 2 (some .int) 1 := ⟨q1329, qs40, q134, q1330, by decide, by decide +kernel⟩
def gh_joinAt (T : zt_T) (M : cs_S) (a1 : Int32) : Option (Int32 × cs_S) :=
(zs_ald 6 (M.2 (10 + 0) 4) (a1 - 1)).bind fun x1 =>
(zs_ald 6 (M.2 (10 + 0) 4) a1).bind fun x2 =>
(gh_joins T M x1 x2).bind fun p3 =>
some (p3.1, p3.2)
set_option maxHeartbeats 4000000 in
theorem kh_joinAt (D : zs_D) (W : cs_W) (P : Nat → Bool) (h0 : zs_AH) (c : Nat) (M : cs_S) (a1 : Int32) : zs_Con D (cs_R W P h0 c) cs_bd zs_eI yX0_joinAt cX0_joinAt 2 (some .int) 425 [.ref (c + 0), .int a1] M (gh_joinAt W.2.1 M a1) := by
  unfold gh_joinAt
  refine zs_con (own := RX0) (nm := "joinAt") pl_X0 rfl rfl (Nat.le_of_ble_eq_true rfl) ?_
  refine zs_lv (lv' := [(0, .ref (c + 0)), (1, .int a1)]) rfl ?_
  refine zs_aload_n (pc := 0) 0 dX0_joinAt_0 rfl rfl ?_
  refine zs_aload_n (pc := 1) 0 dX0_joinAt_1 rfl rfl ?_
  refine cs_getr (pc := 2) 0 0 7 (v := .ref (c + cs_va 0)) ⟨⟨by decide, by decide⟩, rfl⟩ zc_X0 ⟨rfl, rfl⟩ (by decide) rfl rfl q536 dX0_joinAt_2 ?_
  refine cs_getr (pc := 5) (cs_va 0) (10 + 0) 4 (v := .ref (c + (cs_va 0 + 5))) (cs_pv (by omega)) zc_X5 (cs_vcl (by omega)) (by decide) (cs_vsc (by omega) 4 false (by decide)) (cs_vcv (by omega) 4 5 (by decide)) q448 dX0_joinAt_5 ?_
  refine zs_iload_n (pc := 8) 1 dX0_joinAt_8 rfl rfl ?_
  refine zs_iconst (pc := 9) (v := 1) dX0_joinAt_9 rfl ?_
  refine zs_isub (pc := 10) dX0_joinAt_10 ?_
  refine cs_iald (pc := 11) (cs_va 0 + 5) (10 + 0) 4 (cs_pva (by omega) 5 (by decide) 6 rfl) dX0_joinAt_11 (fun x1 => ?_)
  refine zs_aload_n (pc := 12) 0 dX0_joinAt_12 rfl rfl ?_
  refine cs_getr (pc := 13) 0 0 7 (v := .ref (c + cs_va 0)) ⟨⟨by decide, by decide⟩, rfl⟩ zc_X0 ⟨rfl, rfl⟩ (by decide) rfl rfl q536 dX0_joinAt_13 ?_
  refine cs_getr (pc := 16) (cs_va 0) (10 + 0) 4 (v := .ref (c + (cs_va 0 + 5))) (cs_pv (by omega)) zc_X5 (cs_vcl (by omega)) (by decide) (cs_vsc (by omega) 4 false (by decide)) (cs_vcv (by omega) 4 5 (by decide)) q448 dX0_joinAt_16 ?_
  refine zs_iload_n (pc := 19) 1 dX0_joinAt_19 rfl rfl ?_
  refine cs_iald (pc := 20) (cs_va 0 + 5) (10 + 0) 4 (cs_pva (by omega) 5 (by decide) 6 rfl) dX0_joinAt_20 (fun x2 => ?_)
  refine zs_callVwI (pc := 21) [.int x1, .int x2] [] (kh_joins D W P h0 c M x1 x2) wh_joins q1331 zc_X0 cs_rcv0 dX0_joinAt_21 rfl rfl (Nat.le_of_ble_eq_true rfl) (Nat.le_of_ble_eq_true rfl) (fun p3 => ?_)
  exact zs_iret (pc := 24) dX0_joinAt_24 rfl rfl rfl
theorem wh_quarrel : zs_mV RX0 yX0_quarrel cX0_quarrel 4 (some .int) 1 := ⟨q1324, q1325, q134, q1326, by decide, by decide +kernel⟩
def gh_quarrel_L16 (T : zt_T) : (Int32 × Int32 × cs_S) → Option ((Int32 × Int32 × cs_S) ⊕ (Int32 × cs_S)) := fun t16 =>
if t16.2.1 < (t16.2.2.1 (10 + 0) 5) then ((zs_let (fun (p4 : cs_S) => some (t16.2.1, p4)) fun J44 =>
if t16.1 < 0 then (J44 t16.2.2)
else ((gh_joinAt T t16.2.2 t16.2.1).bind fun p5 =>
(gh_joinAt T p5.2 t16.1).bind fun p6 =>
if p5.1 < p6.1 then (J44 p6.2)
else (some (t16.1, p6.2)))).bind fun (p2 : Int32 × cs_S) =>
(some p2.2).bind fun M3 =>
some (Sum.inl (p2.1, (t16.2.1 + 1), M3)))
else (some (Sum.inr (t16.1, t16.2.2)))
def gh_quarrel (T : zt_T) (M : cs_S) (a1 : Int32) : Option (Int32 × cs_S) :=
(gh_isIn a1 0 1).bind fun b1 =>
if b1 = true then ((zs_loop 5000 (gh_quarrel_L16 T) ((-2), 1, M)).bind fun (r7 : Int32 × cs_S) =>
zs_let (fun (p8 : Unit) => some (r7.1, r7.2)) fun J60 =>
if r7.1 < 0 then (J60 ())
else (if a1 = 0 then (J60 ())
else ((gh_joinAt T r7.2 r7.1).bind fun p9 =>
some (p9.1, p9.2))))
else (some ((-1), M))
set_option maxHeartbeats 4000000 in
theorem kh_quarrel (D : zs_D) (W : cs_W) (P : Nat → Bool) (h0 : zs_AH) (c : Nat) (M : cs_S) (a1 : Int32) : zs_Con D (cs_R W P h0 c) cs_bd zs_eI yX0_quarrel cX0_quarrel 4 (some .int) 426 [.ref (c + 0), .int a1] M (gh_quarrel W.2.1 M a1) := by
  unfold gh_quarrel
  refine zs_con (own := RX0) (nm := "quarrel") pl_X0 rfl rfl (Nat.le_of_ble_eq_true rfl) ?_
  refine zs_lv (lv' := [(0, .ref (c + 0)), (1, .int a1)]) rfl ?_
  refine zs_iload_n (pc := 0) 1 dX0_quarrel_0 rfl rfl ?_
  refine zs_iconst (pc := 1) (v := 0) dX0_quarrel_1 rfl ?_
  refine zs_iconst (pc := 2) (v := 1) dX0_quarrel_2 rfl ?_
  refine zs_callSrB (pc := 3) [.int a1, .int 0, .int 1] [] (kh_isIn D _ _ M a1 0 1) wh_isIn q1129 dX0_quarrel_3 rfl rfl (Nat.le_of_ble_eq_true rfl) (Nat.le_of_ble_eq_true rfl) (fun b1 => ?_)
  refine zs_if_t (pc := 6) (tgt := 11) dX0_quarrel_6 (by decide) ?_ ?_
  · refine zs_bipush (pc := 11) (v := (-2)) dX0_quarrel_11 (by decide) ?_
    refine zs_istore_n (pc := 13) (lv' := [(0, .ref (c + 0)), (1, .int a1), (2, .int (-2))]) [1, 2, 0] dX0_quarrel_13 rfl (by decide) rfl ?_
    refine zs_iconst (pc := 14) (v := 1) dX0_quarrel_14 rfl ?_
    refine zs_istore_n (pc := 15) (lv' := [(0, .ref (c + 0)), (1, .int a1), (2, .int (-2)), (3, .int 1)]) [1, 2, 3, 0] dX0_quarrel_15 rfl (by decide) rfl ?_
    refine zs_whileJ (pc := 16) (fun (t16 : Int32 × Int32 × cs_S) => t16.2.2) (fun (t16 : Int32 × Int32 × cs_S) => [(0, .ref (c + 0)), (1, .int a1), (2, .int t16.1), (3, .int t16.2.1)]) 5000 ((-2), 1, M) (fun (r7 : Int32 × cs_S) => r7.2) 52 (fun (r7 : Int32 × cs_S) => [(0, .ref (c + 0)), (1, .int a1), (2, .int r7.1)]) [] (fun r7 => ?_) (fun X16 hL16 hE16 t16 => ?_)
    · refine zs_iload_n (pc := 52) 2 dX0_quarrel_52 rfl rfl ?_
      refine zs_letJ (pc := 53) (fun (p8 : Unit) => r7.2) 60 (fun (p8 : Unit) => [(2, .int r7.1)]) (fun (p8 : Unit) => []) (fun p8 => ?_) (fun J60 h60 => ?_)
      · refine zs_iload_n (pc := 60) 0 dX0_quarrel_60 rfl rfl ?_
        refine zs_goto (pc := 61) (tgt := 69) dX0_quarrel_61 (by decide) ?_
        exact zs_iret (pc := 69) dX0_quarrel_69 rfl rfl rfl
      · refine zs_if_lt (pc := 53) (tgt := 60) dX0_quarrel_53 (by decide) ?_ ?_
        · refine zs_sub (lv' := [(2, .int r7.1)]) [2] rfl ?_
          exact h60 ()
        · refine zs_iload_n (pc := 56) 1 dX0_quarrel_56 rfl rfl ?_
          refine zs_if_ne (pc := 57) (tgt := 64) dX0_quarrel_57 (by decide) ?_ ?_
          · refine zs_sub (lv' := [(2, .int r7.1)]) [2] rfl ?_
            exact h60 ()
          · refine zs_aload_n (pc := 64) 0 dX0_quarrel_64 rfl rfl ?_
            refine zs_iload_n (pc := 65) 2 dX0_quarrel_65 rfl rfl ?_
            refine zs_callVwI (pc := 66) [.int r7.1] [] (kh_joinAt D W P h0 c r7.2 r7.1) wh_joinAt q1327 zc_X0 cs_rcv0 dX0_quarrel_66 rfl rfl (Nat.le_of_ble_eq_true rfl) (Nat.le_of_ble_eq_true rfl) (fun p9 => ?_)
            exact zs_iret (pc := 69) dX0_quarrel_69 rfl rfl rfl
    · unfold gh_quarrel_L16
      refine zs_iload_n (pc := 16) 3 dX0_quarrel_16 rfl rfl ?_
      refine zs_aload_n (pc := 17) 0 dX0_quarrel_17 rfl rfl ?_
      refine cs_getr (pc := 18) 0 0 7 (v := .ref (c + cs_va 0)) ⟨⟨by decide, by decide⟩, rfl⟩ zc_X0 ⟨rfl, rfl⟩ (by decide) rfl rfl q536 dX0_quarrel_18 ?_
      refine cs_geti (pc := 21) (cs_va 0) (10 + 0) 5 (cs_pv (by omega)) zc_X5 (cs_vcl (by omega)) (by decide) (cs_vsc (by omega) 5 true (by decide)) q450 dX0_quarrel_21 ?_
      refine zs_icmp_ge (pc := 24) (tgt := 52) dX0_quarrel_24 (by decide) ?_ ?_
      · refine zs_iload_n (pc := 27) 2 dX0_quarrel_27 rfl rfl ?_
        refine zs_join (pc := 28) (fun (p2 : Int32 × cs_S) => p2.2) 46 (fun (p2 : Int32 × cs_S) => [(0, .ref (c + 0)), (1, .int a1), (2, .int p2.1), (3, .int t16.2.1)]) (fun (p2 : Int32 × cs_S) => []) (fun p2 => ?_) (fun h46 => ?_)
        · refine zs_iinc (pc := 46) (lv' := [(0, .ref (c + 0)), (1, .int a1), (2, .int p2.1), (3, .int (t16.2.1 + 1))]) 3 [1, 2, 3, 0] dX0_quarrel_46 rfl rfl (by decide) rfl ?_
          refine zs_goto (pc := 49) (tgt := 16) dX0_quarrel_49 (by decide) ?_
          refine zs_nmM (fun M3 => ?_)
          exact hL16 (p2.1, (t16.2.1 + 1), M3)
        · refine zs_letJ (pc := 28) (fun (p4 : cs_S) => p4) 44 (fun (p4 : cs_S) => [(0, .ref (c + 0)), (1, .int a1), (3, .int t16.2.1)]) (fun (p4 : cs_S) => []) (fun p4 => ?_) (fun J44 h44 => ?_)
          · refine zs_iload_n (pc := 44) 2 dX0_quarrel_44 rfl rfl ?_
            refine zs_istore_n (pc := 45) (lv' := [(0, .ref (c + 0)), (1, .int a1), (2, .int t16.2.1), (3, .int t16.2.1)]) [1, 2, 0, 3] dX0_quarrel_45 rfl (by decide) rfl ?_
            exact h46 (t16.2.1, p4)
          · refine zs_if_lt (pc := 28) (tgt := 44) dX0_quarrel_28 (by decide) ?_ ?_
            · refine zs_sub (lv' := [(0, .ref (c + 0)), (1, .int a1), (3, .int t16.2.1)]) [0, 1, 3] rfl ?_
              exact h44 t16.2.2
            · refine zs_aload_n (pc := 31) 0 dX0_quarrel_31 rfl rfl ?_
              refine zs_iload_n (pc := 32) 3 dX0_quarrel_32 rfl rfl ?_
              refine zs_callVwI (pc := 33) [.int t16.2.1] [] (kh_joinAt D W P h0 c t16.2.2 t16.2.1) wh_joinAt q1327 zc_X0 cs_rcv0 dX0_quarrel_33 rfl rfl (Nat.le_of_ble_eq_true rfl) (Nat.le_of_ble_eq_true rfl) (fun p5 => ?_)
              refine zs_aload_n (pc := 36) 0 dX0_quarrel_36 rfl rfl ?_
              refine zs_iload_n (pc := 37) 2 dX0_quarrel_37 rfl rfl ?_
              refine zs_callVwI (pc := 38) [.int t16.1] [.int p5.1] (kh_joinAt D W P h0 c p5.2 t16.1) wh_joinAt q1327 zc_X0 cs_rcv0 dX0_quarrel_38 rfl rfl (Nat.le_of_ble_eq_true rfl) (Nat.le_of_ble_eq_true rfl) (fun p6 => ?_)
              refine zs_icmp_ge (pc := 41) (tgt := 46) dX0_quarrel_41 (by decide) ?_ ?_
              · refine zs_sub (lv' := [(0, .ref (c + 0)), (1, .int a1), (3, .int t16.2.1)]) [0, 1, 3] rfl ?_
                exact h44 p6.2
              · exact h46 (t16.1, p6.2)
      · refine zs_sub (lv' := [(0, .ref (c + 0)), (1, .int a1), (2, .int t16.1)]) [0, 1, 2] rfl ?_
        exact hE16 (t16.1, t16.2.2)
  · refine zs_iconst (pc := 9) (v := (-1)) dX0_quarrel_9 rfl ?_
    exact zs_iret (pc := 10) dX0_quarrel_10 rfl rfl rfl
theorem wh_weakest : zs_mV RX0 yX0_weakest cX0_weakest 3 (some .int) 1 := ⟨q1333, q1334, q134, q1335, by decide, by decide +kernel⟩
def gh_weakest (T : zt_T) (M : cs_S) (a1 : Int32) : Option (Int32 × cs_S) :=
(gh_isIn a1 0 1).bind fun b1 =>
if b1 = true then ((gh_most T M).bind fun p2 =>
(gv_breaksAt T p2.2 0 ((zs_max (-1) p2.1) + 1)).bind fun p3 =>
if p3.1 < 0 then (some ((-2), p3.2))
else (if a1 = 0 then (some ((p3.1 / 2), p3.2))
else (some ((1 - (zs_rem p3.1 2)), p3.2))))
else (some ((-1), M))
set_option maxHeartbeats 4000000 in
theorem kh_weakest (D : zs_D) (W : cs_W) (P : Nat → Bool) (h0 : zs_AH) (c : Nat) (M : cs_S) (a1 : Int32) : zs_Con D (cs_R W P h0 c) cs_bd zs_eI yX0_weakest cX0_weakest 3 (some .int) 427 [.ref (c + 0), .int a1] M (gh_weakest W.2.1 M a1) := by
  unfold gh_weakest
  refine zs_con (own := RX0) (nm := "weakest") pl_X0 rfl rfl (Nat.le_of_ble_eq_true rfl) ?_
  refine zs_lv (lv' := [(0, .ref (c + 0)), (1, .int a1)]) rfl ?_
  refine zs_iload_n (pc := 0) 1 dX0_weakest_0 rfl rfl ?_
  refine zs_iconst (pc := 1) (v := 0) dX0_weakest_1 rfl ?_
  refine zs_iconst (pc := 2) (v := 1) dX0_weakest_2 rfl ?_
  refine zs_callSrB (pc := 3) [.int a1, .int 0, .int 1] [] (kh_isIn D _ _ M a1 0 1) wh_isIn q1129 dX0_weakest_3 rfl rfl (Nat.le_of_ble_eq_true rfl) (Nat.le_of_ble_eq_true rfl) (fun b1 => ?_)
  refine zs_if_t (pc := 6) (tgt := 11) dX0_weakest_6 (by decide) ?_ ?_
  · refine zs_aload_n (pc := 11) 0 dX0_weakest_11 rfl rfl ?_
    refine cs_getr (pc := 12) 0 0 7 (v := .ref (c + cs_va 0)) ⟨⟨by decide, by decide⟩, rfl⟩ zc_X0 ⟨rfl, rfl⟩ (by decide) rfl rfl q536 dX0_weakest_12 ?_
    refine zs_aload_n (pc := 15) 0 dX0_weakest_15 rfl rfl ?_
    refine cs_getr (pc := 16) 0 0 3 (v := .ref (zt_ad W.2.1 0)) ⟨⟨by decide, by decide⟩, rfl⟩ zc_X0 ⟨rfl, rfl⟩ (by decide) rfl rfl q532 dX0_weakest_16 ?_
    refine zs_iconst (pc := 19) (v := (-1)) dX0_weakest_19 rfl ?_
    refine zs_aload_n (pc := 20) 0 dX0_weakest_20 rfl rfl ?_
    refine zs_callVwI (pc := 21) [] [.int (-1), .ref (zt_ad W.2.1 0), .ref (c + cs_va 0)] (kh_most D W P h0 c M) wh_most q1322 zc_X0 cs_rcv0 dX0_weakest_21 rfl rfl (Nat.le_of_ble_eq_true rfl) (Nat.le_of_ble_eq_true rfl) (fun p2 => ?_)
    refine zs_mmax (pc := 24) q1336 dX0_weakest_24 (Nat.le_of_ble_eq_true rfl) (Nat.le_of_ble_eq_true rfl) ?_
    refine zs_iconst (pc := 27) (v := 1) dX0_weakest_27 rfl ?_
    refine zs_iadd (pc := 28) dX0_weakest_28 ?_
    refine zs_callVwI (pc := 29) [.ref (zt_ad W.2.1 0), .int ((zs_max (-1) p2.1) + 1)] [] (kv_xbreaksAt D W P h0 c p2.2 0 (by omega) ((zs_max (-1) p2.1) + 1)) wv_breaksAt q1252 zc_X5 (cs_rcvv (by omega)) dX0_weakest_29 rfl rfl (Nat.le_of_ble_eq_true rfl) (Nat.le_of_ble_eq_true rfl) (fun p3 => ?_)
    refine zs_istore_n (pc := 32) (lv' := [(0, .ref (c + 0)), (1, .int a1), (2, .int p3.1)]) [1, 2, 0] dX0_weakest_32 rfl (by decide) rfl ?_
    refine zs_iload_n (pc := 33) 2 dX0_weakest_33 rfl rfl ?_
    refine zs_if_ge (pc := 34) (tgt := 42) dX0_weakest_34 (by decide) ?_ ?_
    · refine zs_bipush (pc := 37) (v := (-2)) dX0_weakest_37 (by decide) ?_
      refine zs_goto (pc := 39) (tgt := 57) dX0_weakest_39 (by decide) ?_
      exact zs_iret (pc := 57) dX0_weakest_57 rfl rfl rfl
    · refine zs_iload_n (pc := 42) 1 dX0_weakest_42 rfl rfl ?_
      refine zs_if_ne (pc := 43) (tgt := 52) dX0_weakest_43 (by decide) ?_ ?_
      · refine zs_iload_n (pc := 46) 2 dX0_weakest_46 rfl rfl ?_
        refine zs_iconst (pc := 47) (v := 2) dX0_weakest_47 rfl ?_
        refine zs_idivK (pc := 48) dX0_weakest_48 (by decide) ?_
        refine zs_goto (pc := 49) (tgt := 57) dX0_weakest_49 (by decide) ?_
        exact zs_iret (pc := 57) dX0_weakest_57 rfl rfl rfl
      · refine zs_iconst (pc := 52) (v := 1) dX0_weakest_52 rfl ?_
        refine zs_iload_n (pc := 53) 2 dX0_weakest_53 rfl rfl ?_
        refine zs_iconst (pc := 54) (v := 2) dX0_weakest_54 rfl ?_
        refine zs_iremK (pc := 55) dX0_weakest_55 (by decide) ?_
        refine zs_isub (pc := 56) dX0_weakest_56 ?_
        exact zs_iret (pc := 57) dX0_weakest_57 rfl rfl rfl
  · refine zs_iconst (pc := 9) (v := (-1)) dX0_weakest_9 rfl ?_
    exact zs_iret (pc := 10) dX0_weakest_10 rfl rfl rfl
theorem wh_below : zs_mV RX0 yX0_below cX0_below 2 (some .int) 1 := ⟨q1338, q1339, q134, q1340, by decide, by decide +kernel⟩
def gh_below (T : zt_T) (M : cs_S) (a1 : Int32) : Option (Int32) :=
(gh_isPlace T M a1).bind fun b1 =>
if b1 = true then ((gv_below T M 0 a1).bind fun x2 =>
some x2)
else (some (-1))
set_option maxHeartbeats 4000000 in
theorem kh_below (D : zs_D) (W : cs_W) (P : Nat → Bool) (h0 : zs_AH) (c : Nat) (M : cs_S) (a1 : Int32) : zs_Con D (cs_R W P h0 c) cs_bd zs_eI yX0_below cX0_below 2 (some .int) 2 [.ref (c + 0), .int a1] M ((gh_below W.2.1 M a1).map fun x => (x, M)) := by
  unfold gh_below
  refine zs_conR (own := RX0) (nm := "below") pl_X0 rfl rfl (Nat.le_of_ble_eq_true rfl) ?_
  refine zs_lv (lv' := [(0, .ref (c + 0)), (1, .int a1)]) rfl ?_
  refine zs_aload_n (pc := 0) 0 dX0_below_0 rfl rfl ?_
  refine zs_iload_n (pc := 1) 1 dX0_below_1 rfl rfl ?_
  refine zs_callVrB (pc := 2) [.int a1] [] (kh_isPlace D W P h0 c M a1) wh_isPlace q1203 zc_X0 cs_rcv0 dX0_below_2 rfl rfl (Nat.le_of_ble_eq_true rfl) (Nat.le_of_ble_eq_true rfl) (fun b1 => ?_)
  refine zs_if_f (pc := 5) (tgt := 19) dX0_below_5 (by decide) ?_ ?_
  · refine zs_aload_n (pc := 8) 0 dX0_below_8 rfl rfl ?_
    refine cs_getr (pc := 9) 0 0 7 (v := .ref (c + cs_va 0)) ⟨⟨by decide, by decide⟩, rfl⟩ zc_X0 ⟨rfl, rfl⟩ (by decide) rfl rfl q536 dX0_below_9 ?_
    refine zs_iload_n (pc := 12) 1 dX0_below_12 rfl rfl ?_
    refine zs_callVrI (pc := 13) [.int a1] [] (kv_xbelow D W P h0 c M 0 (by omega) a1) wv_below q1341 zc_X5 (cs_rcvv (by omega)) dX0_below_13 rfl rfl (Nat.le_of_ble_eq_true rfl) (Nat.le_of_ble_eq_true rfl) (fun x2 => ?_)
    refine zs_goto (pc := 16) (tgt := 20) dX0_below_16 (by decide) ?_
    exact zs_iret (pc := 20) dX0_below_20 rfl rfl rfl
  · refine zs_iconst (pc := 19) (v := (-1)) dX0_below_19 rfl ?_
    exact zs_iret (pc := 20) dX0_below_20 rfl rfl rfl
theorem wh_share : zs_mV RX0 yX0_share cX0_share 2 (some .int) 1 := ⟨q1343, q1344, q134, q1345, by decide, by decide +kernel⟩
def gh_share (T : zt_T) (M : cs_S) (a1 : Int32) : Option (Int32) :=
(gh_isHouse T M a1).bind fun b1 =>
if b1 = true then ((gv_has T M 0 a1).bind fun b2 =>
if b2 = true then ((zs_ald 6 (M.2 (10 + 0) 1) a1).bind fun x3 =>
(gv_ropeLong T M 0).bind fun x4 =>
(zs_div (1000 * x3) x4).bind fun x5 =>
some x5)
else (some 0))
else (some (-1))
set_option maxHeartbeats 4000000 in
theorem kh_share (D : zs_D) (W : cs_W) (P : Nat → Bool) (h0 : zs_AH) (c : Nat) (M : cs_S) (a1 : Int32) : zs_Con D (cs_R W P h0 c) cs_bd zs_eI yX0_share cX0_share 2 (some .int) 3 [.ref (c + 0), .int a1] M ((gh_share W.2.1 M a1).map fun x => (x, M)) := by
  unfold gh_share
  refine zs_conR (own := RX0) (nm := "share") pl_X0 rfl rfl (Nat.le_of_ble_eq_true rfl) ?_
  refine zs_lv (lv' := [(0, .ref (c + 0)), (1, .int a1)]) rfl ?_
  refine zs_aload_n (pc := 0) 0 dX0_share_0 rfl rfl ?_
  refine zs_iload_n (pc := 1) 1 dX0_share_1 rfl rfl ?_
  refine zs_callVrB (pc := 2) [.int a1] [] (kh_isHouse D W P h0 c M a1) wh_isHouse q1120 zc_X0 cs_rcv0 dX0_share_2 rfl rfl (Nat.le_of_ble_eq_true rfl) (Nat.le_of_ble_eq_true rfl) (fun b1 => ?_)
  refine zs_if_t (pc := 5) (tgt := 12) dX0_share_5 (by decide) ?_ ?_
  · refine zs_aload_n (pc := 12) 0 dX0_share_12 rfl rfl ?_
    refine cs_getr (pc := 13) 0 0 7 (v := .ref (c + cs_va 0)) ⟨⟨by decide, by decide⟩, rfl⟩ zc_X0 ⟨rfl, rfl⟩ (by decide) rfl rfl q536 dX0_share_13 ?_
    refine zs_iload_n (pc := 16) 1 dX0_share_16 rfl rfl ?_
    refine zs_callVrB (pc := 17) [.int a1] [] (kv_xhas D W P h0 c M 0 (by omega) a1) wv_has q1211 zc_X5 (cs_rcvv (by omega)) dX0_share_17 rfl rfl (Nat.le_of_ble_eq_true rfl) (Nat.le_of_ble_eq_true rfl) (fun b2 => ?_)
    refine zs_if_f (pc := 20) (tgt := 47) dX0_share_20 (by decide) ?_ ?_
    · refine zs_sipush (pc := 23) (v := 1000) dX0_share_23 (by decide) ?_
      refine zs_aload_n (pc := 26) 0 dX0_share_26 rfl rfl ?_
      refine cs_getr (pc := 27) 0 0 7 (v := .ref (c + cs_va 0)) ⟨⟨by decide, by decide⟩, rfl⟩ zc_X0 ⟨rfl, rfl⟩ (by decide) rfl rfl q536 dX0_share_27 ?_
      refine cs_getr (pc := 30) (cs_va 0) (10 + 0) 1 (v := .ref (c + (cs_va 0 + 2))) (cs_pv (by omega)) zc_X5 (cs_vcl (by omega)) (by decide) (cs_vsc (by omega) 1 false (by decide)) (cs_vcv (by omega) 1 2 (by decide)) q442 dX0_share_30 ?_
      refine zs_iload_n (pc := 33) 1 dX0_share_33 rfl rfl ?_
      refine cs_iald (pc := 34) (cs_va 0 + 2) (10 + 0) 1 (cs_pva (by omega) 2 (by decide) 6 rfl) dX0_share_34 (fun x3 => ?_)
      refine zs_imul (pc := 35) dX0_share_35 ?_
      refine zs_aload_n (pc := 36) 0 dX0_share_36 rfl rfl ?_
      refine cs_getr (pc := 37) 0 0 7 (v := .ref (c + cs_va 0)) ⟨⟨by decide, by decide⟩, rfl⟩ zc_X0 ⟨rfl, rfl⟩ (by decide) rfl rfl q536 dX0_share_37 ?_
      refine zs_callVrI (pc := 40) [] [.int (1000 * x3)] (kv_xropeLong D W P h0 c M 0 (by omega)) wv_ropeLong q1229 zc_X5 (cs_rcvv (by omega)) dX0_share_40 rfl rfl (Nat.le_of_ble_eq_true rfl) (Nat.le_of_ble_eq_true rfl) (fun x4 => ?_)
      refine zs_idiv (pc := 43) dX0_share_43 (fun x5 => ?_)
      refine zs_goto (pc := 44) (tgt := 48) dX0_share_44 (by decide) ?_
      exact zs_iret (pc := 48) dX0_share_48 rfl rfl rfl
    · refine zs_iconst (pc := 47) (v := 0) dX0_share_47 rfl ?_
      exact zs_iret (pc := 48) dX0_share_48 rfl rfl rfl
  · refine zs_iconst (pc := 8) (v := (-1)) dX0_share_8 rfl ?_
    refine zs_goto (pc := 9) (tgt := 48) dX0_share_9 (by decide) ?_
    exact zs_iret (pc := 48) dX0_share_48 rfl rfl rfl
theorem wh_greyest : zs_mV RX0 yX0_greyest cX0_greyest 4 (some .int) 1 := ⟨q1347, q1348, q134, q1349, by decide, by decide +kernel⟩
def gh_greyest_L16 (M : cs_S) : (Int32 × Int32) → Option ((Int32 × Int32) ⊕ (Int32)) := fun t16 =>
if t16.2 < (M.1 (10 + 0) 5) then ((zs_let (fun (p3 : Unit) => some t16.2) fun J68 =>
if t16.1 < 0 then (J68 ())
else ((zs_ald 6 (M.2 (10 + 0) 4) t16.2).bind fun x4 =>
(zs_ald 6 (M.2 (10 + 0) 2) x4).bind fun x5 =>
(zs_ald 6 (M.2 (10 + 0) 4) t16.1).bind fun x6 =>
(zs_ald 6 (M.2 (10 + 0) 2) x6).bind fun x7 =>
if x5 < x7 then (J68 ())
else (some t16.1))).bind fun (p2 : Int32) =>
some (Sum.inl (p2, (t16.2 + 1))))
else (some (Sum.inr t16.1))
def gh_greyest (T : zt_T) (M : cs_S) (a1 : Int32) : Option (Int32) :=
(gh_isIn a1 0 1).bind fun b1 =>
if b1 = true then ((zs_loop 5000 (gh_greyest_L16 M) ((-2), 0)).bind fun (r8 : Int32) =>
zs_let (fun (p9 : Unit) => some r8) fun J84 =>
if r8 < 0 then (J84 ())
else (if a1 = 0 then (J84 ())
else ((zs_ald 6 (M.2 (10 + 0) 4) r8).bind fun x10 =>
(zs_ald 6 (M.2 (10 + 0) 2) x10).bind fun x11 =>
some x11)))
else (some (-1))
set_option maxHeartbeats 4000000 in
theorem kh_greyest (D : zs_D) (W : cs_W) (P : Nat → Bool) (h0 : zs_AH) (c : Nat) (M : cs_S) (a1 : Int32) : zs_Con D (cs_R W P h0 c) cs_bd zs_eI yX0_greyest cX0_greyest 4 (some .int) 1 [.ref (c + 0), .int a1] M ((gh_greyest W.2.1 M a1).map fun x => (x, M)) := by
  unfold gh_greyest
  refine zs_conR (own := RX0) (nm := "greyest") pl_X0 rfl rfl (Nat.le_of_ble_eq_true rfl) ?_
  refine zs_lv (lv' := [(0, .ref (c + 0)), (1, .int a1)]) rfl ?_
  refine zs_iload_n (pc := 0) 1 dX0_greyest_0 rfl rfl ?_
  refine zs_iconst (pc := 1) (v := 0) dX0_greyest_1 rfl ?_
  refine zs_iconst (pc := 2) (v := 1) dX0_greyest_2 rfl ?_
  refine zs_callSrB (pc := 3) [.int a1, .int 0, .int 1] [] (kh_isIn D _ _ M a1 0 1) wh_isIn q1129 dX0_greyest_3 rfl rfl (Nat.le_of_ble_eq_true rfl) (Nat.le_of_ble_eq_true rfl) (fun b1 => ?_)
  refine zs_if_t (pc := 6) (tgt := 11) dX0_greyest_6 (by decide) ?_ ?_
  · refine zs_bipush (pc := 11) (v := (-2)) dX0_greyest_11 (by decide) ?_
    refine zs_istore_n (pc := 13) (lv' := [(0, .ref (c + 0)), (1, .int a1), (2, .int (-2))]) [1, 2, 0] dX0_greyest_13 rfl (by decide) rfl ?_
    refine zs_iconst (pc := 14) (v := 0) dX0_greyest_14 rfl ?_
    refine zs_istore_n (pc := 15) (lv' := [(0, .ref (c + 0)), (1, .int a1), (2, .int (-2)), (3, .int 0)]) [1, 2, 3, 0] dX0_greyest_15 rfl (by decide) rfl ?_
    refine zs_whileJ (pc := 16) (fun (t16 : Int32 × Int32) => M) (fun (t16 : Int32 × Int32) => [(0, .ref (c + 0)), (1, .int a1), (2, .int t16.1), (3, .int t16.2)]) 5000 ((-2), 0) (fun (r8 : Int32) => M) 76 (fun (r8 : Int32) => [(0, .ref (c + 0)), (1, .int a1), (2, .int r8)]) [] (fun r8 => ?_) (fun X16 hL16 hE16 t16 => ?_)
    · refine zs_iload_n (pc := 76) 2 dX0_greyest_76 rfl rfl ?_
      refine zs_letJ (pc := 77) (fun (p9 : Unit) => M) 84 (fun (p9 : Unit) => [(2, .int r8)]) (fun (p9 : Unit) => []) (fun p9 => ?_) (fun J84 h84 => ?_)
      · refine zs_iload_n (pc := 84) 0 dX0_greyest_84 rfl rfl ?_
        refine zs_goto (pc := 85) (tgt := 105) dX0_greyest_85 (by decide) ?_
        exact zs_iret (pc := 105) dX0_greyest_105 rfl rfl rfl
      · refine zs_if_lt (pc := 77) (tgt := 84) dX0_greyest_77 (by decide) ?_ ?_
        · refine zs_sub (lv' := [(2, .int r8)]) [2] rfl ?_
          exact h84 ()
        · refine zs_iload_n (pc := 80) 1 dX0_greyest_80 rfl rfl ?_
          refine zs_if_ne (pc := 81) (tgt := 88) dX0_greyest_81 (by decide) ?_ ?_
          · refine zs_sub (lv' := [(2, .int r8)]) [2] rfl ?_
            exact h84 ()
          · refine zs_aload_n (pc := 88) 0 dX0_greyest_88 rfl rfl ?_
            refine cs_getr (pc := 89) 0 0 7 (v := .ref (c + cs_va 0)) ⟨⟨by decide, by decide⟩, rfl⟩ zc_X0 ⟨rfl, rfl⟩ (by decide) rfl rfl q536 dX0_greyest_89 ?_
            refine cs_getr (pc := 92) (cs_va 0) (10 + 0) 2 (v := .ref (c + (cs_va 0 + 3))) (cs_pv (by omega)) zc_X5 (cs_vcl (by omega)) (by decide) (cs_vsc (by omega) 2 false (by decide)) (cs_vcv (by omega) 2 3 (by decide)) q444 dX0_greyest_92 ?_
            refine zs_aload_n (pc := 95) 0 dX0_greyest_95 rfl rfl ?_
            refine cs_getr (pc := 96) 0 0 7 (v := .ref (c + cs_va 0)) ⟨⟨by decide, by decide⟩, rfl⟩ zc_X0 ⟨rfl, rfl⟩ (by decide) rfl rfl q536 dX0_greyest_96 ?_
            refine cs_getr (pc := 99) (cs_va 0) (10 + 0) 4 (v := .ref (c + (cs_va 0 + 5))) (cs_pv (by omega)) zc_X5 (cs_vcl (by omega)) (by decide) (cs_vsc (by omega) 4 false (by decide)) (cs_vcv (by omega) 4 5 (by decide)) q448 dX0_greyest_99 ?_
            refine zs_iload_n (pc := 102) 2 dX0_greyest_102 rfl rfl ?_
            refine cs_iald (pc := 103) (cs_va 0 + 5) (10 + 0) 4 (cs_pva (by omega) 5 (by decide) 6 rfl) dX0_greyest_103 (fun x10 => ?_)
            refine cs_iald (pc := 104) (cs_va 0 + 3) (10 + 0) 2 (cs_pva (by omega) 3 (by decide) 6 rfl) dX0_greyest_104 (fun x11 => ?_)
            exact zs_iret (pc := 105) dX0_greyest_105 rfl rfl rfl
    · unfold gh_greyest_L16
      refine zs_iload_n (pc := 16) 3 dX0_greyest_16 rfl rfl ?_
      refine zs_aload_n (pc := 17) 0 dX0_greyest_17 rfl rfl ?_
      refine cs_getr (pc := 18) 0 0 7 (v := .ref (c + cs_va 0)) ⟨⟨by decide, by decide⟩, rfl⟩ zc_X0 ⟨rfl, rfl⟩ (by decide) rfl rfl q536 dX0_greyest_18 ?_
      refine cs_geti (pc := 21) (cs_va 0) (10 + 0) 5 (cs_pv (by omega)) zc_X5 (cs_vcl (by omega)) (by decide) (cs_vsc (by omega) 5 true (by decide)) q450 dX0_greyest_21 ?_
      refine zs_icmp_ge (pc := 24) (tgt := 76) dX0_greyest_24 (by decide) ?_ ?_
      · refine zs_iload_n (pc := 27) 2 dX0_greyest_27 rfl rfl ?_
        refine zs_join (pc := 28) (fun (p2 : Int32) => M) 70 (fun (p2 : Int32) => [(0, .ref (c + 0)), (1, .int a1), (2, .int p2), (3, .int t16.2)]) (fun (p2 : Int32) => []) (fun p2 => ?_) (fun h70 => ?_)
        · refine zs_iinc (pc := 70) (lv' := [(0, .ref (c + 0)), (1, .int a1), (2, .int p2), (3, .int (t16.2 + 1))]) 3 [1, 2, 3, 0] dX0_greyest_70 rfl rfl (by decide) rfl ?_
          refine zs_goto (pc := 73) (tgt := 16) dX0_greyest_73 (by decide) ?_
          exact hL16 (p2, (t16.2 + 1))
        · refine zs_letJ (pc := 28) (fun (p3 : Unit) => M) 68 (fun (p3 : Unit) => [(0, .ref (c + 0)), (1, .int a1), (3, .int t16.2)]) (fun (p3 : Unit) => []) (fun p3 => ?_) (fun J68 h68 => ?_)
          · refine zs_iload_n (pc := 68) 2 dX0_greyest_68 rfl rfl ?_
            refine zs_istore_n (pc := 69) (lv' := [(0, .ref (c + 0)), (1, .int a1), (2, .int t16.2), (3, .int t16.2)]) [1, 2, 0, 3] dX0_greyest_69 rfl (by decide) rfl ?_
            exact h70 t16.2
          · refine zs_if_lt (pc := 28) (tgt := 68) dX0_greyest_28 (by decide) ?_ ?_
            · refine zs_sub (lv' := [(0, .ref (c + 0)), (1, .int a1), (3, .int t16.2)]) [0, 1, 3] rfl ?_
              exact h68 ()
            · refine zs_aload_n (pc := 31) 0 dX0_greyest_31 rfl rfl ?_
              refine cs_getr (pc := 32) 0 0 7 (v := .ref (c + cs_va 0)) ⟨⟨by decide, by decide⟩, rfl⟩ zc_X0 ⟨rfl, rfl⟩ (by decide) rfl rfl q536 dX0_greyest_32 ?_
              refine cs_getr (pc := 35) (cs_va 0) (10 + 0) 2 (v := .ref (c + (cs_va 0 + 3))) (cs_pv (by omega)) zc_X5 (cs_vcl (by omega)) (by decide) (cs_vsc (by omega) 2 false (by decide)) (cs_vcv (by omega) 2 3 (by decide)) q444 dX0_greyest_35 ?_
              refine zs_aload_n (pc := 38) 0 dX0_greyest_38 rfl rfl ?_
              refine cs_getr (pc := 39) 0 0 7 (v := .ref (c + cs_va 0)) ⟨⟨by decide, by decide⟩, rfl⟩ zc_X0 ⟨rfl, rfl⟩ (by decide) rfl rfl q536 dX0_greyest_39 ?_
              refine cs_getr (pc := 42) (cs_va 0) (10 + 0) 4 (v := .ref (c + (cs_va 0 + 5))) (cs_pv (by omega)) zc_X5 (cs_vcl (by omega)) (by decide) (cs_vsc (by omega) 4 false (by decide)) (cs_vcv (by omega) 4 5 (by decide)) q448 dX0_greyest_42 ?_
              refine zs_iload_n (pc := 45) 3 dX0_greyest_45 rfl rfl ?_
              refine cs_iald (pc := 46) (cs_va 0 + 5) (10 + 0) 4 (cs_pva (by omega) 5 (by decide) 6 rfl) dX0_greyest_46 (fun x4 => ?_)
              refine cs_iald (pc := 47) (cs_va 0 + 3) (10 + 0) 2 (cs_pva (by omega) 3 (by decide) 6 rfl) dX0_greyest_47 (fun x5 => ?_)
              refine zs_aload_n (pc := 48) 0 dX0_greyest_48 rfl rfl ?_
              refine cs_getr (pc := 49) 0 0 7 (v := .ref (c + cs_va 0)) ⟨⟨by decide, by decide⟩, rfl⟩ zc_X0 ⟨rfl, rfl⟩ (by decide) rfl rfl q536 dX0_greyest_49 ?_
              refine cs_getr (pc := 52) (cs_va 0) (10 + 0) 2 (v := .ref (c + (cs_va 0 + 3))) (cs_pv (by omega)) zc_X5 (cs_vcl (by omega)) (by decide) (cs_vsc (by omega) 2 false (by decide)) (cs_vcv (by omega) 2 3 (by decide)) q444 dX0_greyest_52 ?_
              refine zs_aload_n (pc := 55) 0 dX0_greyest_55 rfl rfl ?_
              refine cs_getr (pc := 56) 0 0 7 (v := .ref (c + cs_va 0)) ⟨⟨by decide, by decide⟩, rfl⟩ zc_X0 ⟨rfl, rfl⟩ (by decide) rfl rfl q536 dX0_greyest_56 ?_
              refine cs_getr (pc := 59) (cs_va 0) (10 + 0) 4 (v := .ref (c + (cs_va 0 + 5))) (cs_pv (by omega)) zc_X5 (cs_vcl (by omega)) (by decide) (cs_vsc (by omega) 4 false (by decide)) (cs_vcv (by omega) 4 5 (by decide)) q448 dX0_greyest_59 ?_
              refine zs_iload_n (pc := 62) 2 dX0_greyest_62 rfl rfl ?_
              refine cs_iald (pc := 63) (cs_va 0 + 5) (10 + 0) 4 (cs_pva (by omega) 5 (by decide) 6 rfl) dX0_greyest_63 (fun x6 => ?_)
              refine cs_iald (pc := 64) (cs_va 0 + 3) (10 + 0) 2 (cs_pva (by omega) 3 (by decide) 6 rfl) dX0_greyest_64 (fun x7 => ?_)
              refine zs_icmp_ge (pc := 65) (tgt := 70) dX0_greyest_65 (by decide) ?_ ?_
              · refine zs_sub (lv' := [(0, .ref (c + 0)), (1, .int a1), (3, .int t16.2)]) [0, 1, 3] rfl ?_
                exact h68 ()
              · exact h70 t16.1
      · refine zs_sub (lv' := [(0, .ref (c + 0)), (1, .int a1), (2, .int t16.1)]) [0, 1, 2] rfl ?_
        exact hE16 t16.1
  · refine zs_iconst (pc := 9) (v := (-1)) dX0_greyest_9 rfl ?_
    exact zs_iret (pc := 10) dX0_greyest_10 rfl rfl rfl
theorem wh_laysJoins : zs_mV RX0 yX0_laysJoins cX0_laysJoins 4 none 1 := ⟨q1356, qs41, q134, q1357, by decide, by decide +kernel⟩
def gh_laysJoins_L12 (T : zt_T) (t2 : Int32 × cs_S) (v1 : Nat) : (Int32 × cs_S) → Option ((Int32 × cs_S) ⊕ (cs_S)) := fun t12 =>
(gh_houses T t12.2).bind fun x2 =>
if t12.1 < x2 then ((zs_ix 6 t2.1).bind fun k3 =>
(zs_ix 6 t2.1).bind fun k4 =>
(zs_ald 6 (zt_lk T k4) t12.1).bind fun x5 =>
(gv_joins T t12.2 v1 t2.1 t12.1 x5).bind fun p6 =>
(zs_ast 6 t12.1 (cs_sA p6.2 61 k3 t12.1 p6.1)).bind fun M7 =>
some (Sum.inl ((t12.1 + 1), M7)))
else (some (Sum.inr t12.2))
def gh_laysJoins_L2 (T : zt_T) (v1 : Nat) : (Int32 × cs_S) → Option ((Int32 × cs_S) ⊕ (cs_S)) := fun t2 =>
(gh_houses T t2.2).bind fun x1 =>
if t2.1 < x1 then ((zs_loop 5000 (gh_laysJoins_L12 T t2 v1) (0, t2.2)).bind fun (r8 : cs_S) =>
some (Sum.inl ((t2.1 + 1), r8)))
else (some (Sum.inr t2.2))
def gh_laysJoins (T : zt_T) (M : cs_S) (v1 : Nat) : Option (cs_S) :=
(zs_loop 5000 (gh_laysJoins_L2 T v1) (0, M)).bind fun z => some z
set_option maxHeartbeats 4000000 in
theorem kh_laysJoins (D : zs_D) (W : cs_W) (P : Nat → Bool) (h0 : zs_AH) (c : Nat) (M : cs_S) (v1 : Nat) (hv1 : v1 < 45) : zs_Con D (cs_R W P h0 c) cs_bd zs_eV yX0_laysJoins cX0_laysJoins 4 none 424 [.ref (c + 0), .ref (c + cs_va v1)] M ((gh_laysJoins W.2.1 M v1).map fun x => ((), x)) := by
  unfold gh_laysJoins
  refine zs_conV (own := RX0) (nm := "laysJoins") pl_X0 rfl rfl (Nat.le_of_ble_eq_true rfl) ?_
  refine zs_lv (lv' := [(0, .ref (c + 0)), (1, .ref (c + cs_va v1))]) rfl ?_
  refine zs_iconst (pc := 0) (v := 0) dX0_laysJoins_0 rfl ?_
  refine zs_istore_n (pc := 1) (lv' := [(0, .ref (c + 0)), (1, .ref (c + cs_va v1)), (2, .int 0)]) [1, 2, 0] dX0_laysJoins_1 rfl (by decide) rfl ?_
  refine zs_whileX (pc := 2) (fun (t2 : Int32 × cs_S) => t2.2) (fun (t2 : Int32 × cs_S) => [(0, .ref (c + 0)), (1, .ref (c + cs_va v1)), (2, .int t2.1)]) 5000 (0, M) (fun X2 hL2 hR2 t2 => ?_)
  unfold gh_laysJoins_L2
  refine zs_iload_n (pc := 2) 2 dX0_laysJoins_2 rfl rfl ?_
  refine zs_aload_n (pc := 3) 0 dX0_laysJoins_3 rfl rfl ?_
  refine zs_callVrI (pc := 4) [] [.int t2.1] (kh_houses D W P h0 c t2.2) wh_houses q1124 zc_X0 cs_rcv0 dX0_laysJoins_4 rfl rfl (Nat.le_of_ble_eq_true rfl) (Nat.le_of_ble_eq_true rfl) (fun x1 => ?_)
  refine zs_icmp_ge (pc := 7) (tgt := 61) dX0_laysJoins_7 (by decide) ?_ ?_
  · refine zs_iconst (pc := 10) (v := 0) dX0_laysJoins_10 rfl ?_
    refine zs_istore_n (pc := 11) (lv' := [(0, .ref (c + 0)), (1, .ref (c + cs_va v1)), (2, .int t2.1), (3, .int 0)]) [1, 2, 3, 0] dX0_laysJoins_11 rfl (by decide) rfl ?_
    refine zs_whileJ (pc := 12) (fun (t12 : Int32 × cs_S) => t12.2) (fun (t12 : Int32 × cs_S) => [(0, .ref (c + 0)), (1, .ref (c + cs_va v1)), (2, .int t2.1), (3, .int t12.1)]) 5000 (0, t2.2) (fun (r8 : cs_S) => r8) 55 (fun (r8 : cs_S) => [(0, .ref (c + 0)), (1, .ref (c + cs_va v1)), (2, .int t2.1)]) [] (fun r8 => ?_) (fun X12 hL12 hE12 t12 => ?_)
    · refine zs_iinc (pc := 55) (lv' := [(0, .ref (c + 0)), (1, .ref (c + cs_va v1)), (2, .int (t2.1 + 1))]) 2 [1, 2, 0] dX0_laysJoins_55 rfl rfl (by decide) rfl ?_
      refine zs_goto (pc := 58) (tgt := 2) dX0_laysJoins_58 (by decide) ?_
      exact hL2 ((t2.1 + 1), r8)
    · unfold gh_laysJoins_L12
      refine zs_iload_n (pc := 12) 3 dX0_laysJoins_12 rfl rfl ?_
      refine zs_aload_n (pc := 13) 0 dX0_laysJoins_13 rfl rfl ?_
      refine zs_callVrI (pc := 14) [] [.int t12.1] (kh_houses D W P h0 c t12.2) wh_houses q1124 zc_X0 cs_rcv0 dX0_laysJoins_14 rfl rfl (Nat.le_of_ble_eq_true rfl) (Nat.le_of_ble_eq_true rfl) (fun x2 => ?_)
      refine zs_icmp_ge (pc := 17) (tgt := 55) dX0_laysJoins_17 (by decide) ?_ ?_
      · refine zs_aload_n (pc := 20) 0 dX0_laysJoins_20 rfl rfl ?_
        refine cs_getr (pc := 21) 0 0 15 (v := .ref (c + 140)) ⟨⟨by decide, by decide⟩, rfl⟩ zc_X0 ⟨rfl, rfl⟩ (by decide) rfl rfl q544 dX0_laysJoins_21 ?_
        refine zs_iload_n (pc := 24) 2 dX0_laysJoins_24 rfl rfl ?_
        refine cs_join (pc := 25) dX0_laysJoins_25 (fun k3 hk3 => ?_)
        refine zs_iload_n (pc := 26) 3 dX0_laysJoins_26 rfl rfl ?_
        refine zs_aload_n (pc := 27) 1 dX0_laysJoins_27 rfl rfl ?_
        refine zs_aload_n (pc := 28) 0 dX0_laysJoins_28 rfl rfl ?_
        refine cs_getr (pc := 29) 0 0 3 (v := .ref (zt_ad W.2.1 0)) ⟨⟨by decide, by decide⟩, rfl⟩ zc_X0 ⟨rfl, rfl⟩ (by decide) rfl rfl q532 dX0_laysJoins_29 ?_
        refine zs_iload_n (pc := 32) 2 dX0_laysJoins_32 rfl rfl ?_
        refine zs_iload_n (pc := 33) 3 dX0_laysJoins_33 rfl rfl ?_
        refine zs_aload_n (pc := 34) 0 dX0_laysJoins_34 rfl rfl ?_
        refine cs_getr (pc := 35) 0 0 3 (v := .ref (zt_ad W.2.1 0)) ⟨⟨by decide, by decide⟩, rfl⟩ zc_X0 ⟨rfl, rfl⟩ (by decide) rfl rfl q532 dX0_laysJoins_35 ?_
        refine ct_like (pc := 38) q384 dX0_laysJoins_38 ?_
        refine zs_iload_n (pc := 41) 2 dX0_laysJoins_41 rfl rfl ?_
        refine ct_lkrow (pc := 42) dX0_laysJoins_42 (fun k4 hk4 => ?_)
        refine zs_iload_n (pc := 43) 3 dX0_laysJoins_43 rfl rfl ?_
        refine ct_lkald (pc := 44) hk4 dX0_laysJoins_44 (fun x5 => ?_)
        refine zs_callVwI (pc := 45) [.ref (zt_ad W.2.1 0), .int t2.1, .int t12.1, .int x5] [.int t12.1, .ref (c + (141 + k3))] (kv_xjoins D W P h0 c t12.2 v1 (by omega) t2.1 t12.1 x5) wv_joins q1195 zc_X5 (cs_rcvv (by omega)) dX0_laysJoins_45 rfl rfl (Nat.le_of_ble_eq_true rfl) (Nat.le_of_ble_eq_true rfl) (fun p6 => ?_)
        refine cs_iast (pc := 48) (141 + k3) 61 k3 (cs_pjoin hk3) dX0_laysJoins_48 (fun M7 => ?_)
        refine zs_iinc (pc := 49) (lv' := [(0, .ref (c + 0)), (1, .ref (c + cs_va v1)), (2, .int t2.1), (3, .int (t12.1 + 1))]) 3 [1, 2, 3, 0] dX0_laysJoins_49 rfl rfl (by decide) rfl ?_
        refine zs_goto (pc := 52) (tgt := 12) dX0_laysJoins_52 (by decide) ?_
        exact hL12 ((t12.1 + 1), M7)
      · refine zs_sub (lv' := [(0, .ref (c + 0)), (1, .ref (c + cs_va v1)), (2, .int t2.1)]) [0, 1, 2] rfl ?_
        exact hE12 t12.2
  · exact zs_vret (pc := 61) dX0_laysJoins_61 ((hR2 _).trans rfl) rfl
theorem wh_allHouses : zs_mV RX0 yX0_allHouses cX0_allHouses 1 (some .int) 0 := ⟨q1368, qs44, q134, q1369, by decide, by decide +kernel⟩
def gh_allHouses (T : zt_T) (M : cs_S) : Option (Int32) :=
(gh_houses T M).bind fun x1 =>
some (zs_shl 1 x1)
set_option maxHeartbeats 4000000 in
theorem kh_allHouses (D : zs_D) (W : cs_W) (P : Nat → Bool) (h0 : zs_AH) (c : Nat) (M : cs_S) : zs_Con D (cs_R W P h0 c) cs_bd zs_eI yX0_allHouses cX0_allHouses 1 (some .int) 2 [.ref (c + 0)] M ((gh_allHouses W.2.1 M).map fun x => (x, M)) := by
  unfold gh_allHouses
  refine zs_conR (own := RX0) (nm := "allHouses") pl_X0 rfl rfl (Nat.le_of_ble_eq_true rfl) ?_
  refine zs_lv (lv' := [(0, .ref (c + 0))]) rfl ?_
  refine zs_iconst (pc := 0) (v := 1) dX0_allHouses_0 rfl ?_
  refine zs_aload_n (pc := 1) 0 dX0_allHouses_1 rfl rfl ?_
  refine zs_callVrI (pc := 2) [] [.int 1] (kh_houses D W P h0 c M) wh_houses q1124 zc_X0 cs_rcv0 dX0_allHouses_2 rfl rfl (Nat.le_of_ble_eq_true rfl) (Nat.le_of_ble_eq_true rfl) (fun x1 => ?_)
  refine zs_ishl (pc := 5) dX0_allHouses_5 ?_
  exact zs_iret (pc := 6) dX0_allHouses_6 rfl rfl rfl
theorem wv_longOf : zs_mV RX5 yX5_longOf cX5_longOf 2 (some .int) 1 := ⟨q1375, q1376, q145, q1377, by decide, by decide +kernel⟩
def gv_longOf (T : zt_T) (M : cs_S) (i : Nat) (a1 : Int32) : Option (Int32) :=
(gv_has T M i a1).bind fun b1 =>
if b1 = true then ((zs_ald 6 (M.2 (10 + i) 1) a1).bind fun x3 =>
some x3)
else ((zs_ald 6 (M.2 (10 + i) 0) a1).bind fun x2 =>
some x2)
set_option maxHeartbeats 4000000 in
theorem kv_xlongOf (D : zs_D) (W : cs_W) (P : Nat → Bool) (h0 : zs_AH) (c : Nat) (M : cs_S) (i : Nat) (hi : i < 45) (a1 : Int32) : zs_Con D (cs_R W P h0 c) cs_bd zs_eI yX5_longOf cX5_longOf 2 (some .int) 1 [.ref (c + cs_va i), .int a1] M ((gv_longOf W.2.1 M i a1).map fun x => (x, M)) := by
  unfold gv_longOf
  refine zs_conR (own := RX5) (nm := "longOf") pl_X5 rfl rfl (Nat.le_of_ble_eq_true rfl) ?_
  refine zs_lv (lv' := [(0, .ref (c + cs_va i)), (1, .int a1)]) rfl ?_
  refine zs_aload_n (pc := 0) 0 dX5_longOf_0 rfl rfl ?_
  refine zs_iload_n (pc := 1) 1 dX5_longOf_1 rfl rfl ?_
  refine zs_callVrB (pc := 2) [.int a1] [] (kv_xhas D W P h0 c M i (by omega) a1) wv_has q1150 zc_X5 (cs_rcvv (by omega)) dX5_longOf_2 rfl rfl (Nat.le_of_ble_eq_true rfl) (Nat.le_of_ble_eq_true rfl) (fun b1 => ?_)
  refine zs_if_f (pc := 5) (tgt := 17) dX5_longOf_5 (by decide) ?_ ?_
  · refine zs_aload_n (pc := 8) 0 dX5_longOf_8 rfl rfl ?_
    refine cs_getr (pc := 9) (cs_va i) (10 + i) 1 (v := .ref (c + (cs_va i + 2))) (cs_pv (by omega)) zc_X5 (cs_vcl (by omega)) (by decide) (cs_vsc (by omega) 1 false (by decide)) (cs_vcv (by omega) 1 2 (by decide)) q441 dX5_longOf_9 ?_
    refine zs_iload_n (pc := 12) 1 dX5_longOf_12 rfl rfl ?_
    refine cs_iald (pc := 13) (cs_va i + 2) (10 + i) 1 (cs_pva (by omega) 2 (by decide) 6 rfl) dX5_longOf_13 (fun x3 => ?_)
    refine zs_goto (pc := 14) (tgt := 23) dX5_longOf_14 (by decide) ?_
    exact zs_iret (pc := 23) dX5_longOf_23 rfl rfl rfl
  · refine zs_aload_n (pc := 17) 0 dX5_longOf_17 rfl rfl ?_
    refine cs_getr (pc := 18) (cs_va i) (10 + i) 0 (v := .ref (c + (cs_va i + 1))) (cs_pv (by omega)) zc_X5 (cs_vcl (by omega)) (by decide) (cs_vsc (by omega) 0 false (by decide)) (cs_vcv (by omega) 0 1 (by decide)) q439 dX5_longOf_18 ?_
    refine zs_iload_n (pc := 21) 1 dX5_longOf_21 rfl rfl ?_
    refine cs_iald (pc := 22) (cs_va i + 1) (10 + i) 0 (cs_pva (by omega) 1 (by decide) 6 rfl) dX5_longOf_22 (fun x2 => ?_)
    exact zs_iret (pc := 23) dX5_longOf_23 rfl rfl rfl
theorem wh_waysOf : zs_mV RX0 yX0_waysOf cX0_waysOf 8 (some .int) 4 := ⟨q1380, qs45, q134, q1381, by decide, by decide +kernel⟩
def gh_waysOf_L56 (T : zt_T) (M : cs_S) (x1 : Int32) (a4 : Int32) (a2 : Int32) : (Int32 × Int32) → Option ((Int32 × Int32) ⊕ (Int32)) := fun t56 =>
(gh_houses T M).bind fun x5 =>
if t56.2 < x5 then ((zs_ald 64 (M.2 0 16) x1).bind fun x6 =>
(zs_ix 6 a4).bind fun k7 =>
(zs_ald 6 (M.2 61 k7) t56.2).bind fun x8 =>
(if x8 < (a2 + x6) then (some t56.1)
else ((zs_ix 64 x1).bind fun k10 =>
(zs_ald 6 (M.2 60 k10) t56.2).bind fun x11 =>
(some (t56.1 + x11)).bind fun x12 =>
some x12)).bind fun (p9 : Int32) =>
some (Sum.inl (p9, (t56.2 + 1))))
else (some (Sum.inr t56.1))
def gh_waysOf (T : zt_T) (M : cs_S) (v1 : Nat) (a2 : Int32) (a3 : Int32) (a4 : Int32) : Option (Int32) :=
(some (a3 &&& ((zs_shl 1 a4) ^^^ (-1)))).bind fun x1 =>
(gv_longOf T M v1 a4).bind fun x2 =>
if x2 = 0 then (some 0)
else ((zs_ald 64 (M.2 0 16) x1).bind fun x3 =>
(gv_strength T M v1 a4).bind fun x4 =>
if x4 < (a2 + x3) then (some 0)
else (if x1 = 0 then (some 1)
else ((zs_loop 5000 (gh_waysOf_L56 T M x1 a4 a2) (0, 0)).bind fun z => some z)))
set_option maxHeartbeats 4000000 in
theorem kh_waysOf (D : zs_D) (W : cs_W) (P : Nat → Bool) (h0 : zs_AH) (c : Nat) (M : cs_S) (v1 : Nat) (hv1 : v1 < 45) (a2 : Int32) (a3 : Int32) (a4 : Int32) : zs_Con D (cs_R W P h0 c) cs_bd zs_eI yX0_waysOf cX0_waysOf 8 (some .int) 5 [.ref (c + 0), .ref (c + cs_va v1), .int a2, .int a3, .int a4] M ((gh_waysOf W.2.1 M v1 a2 a3 a4).map fun x => (x, M)) := by
  unfold gh_waysOf
  refine zs_conR (own := RX0) (nm := "waysOf") pl_X0 rfl rfl (Nat.le_of_ble_eq_true rfl) ?_
  refine zs_lv (lv' := [(0, .ref (c + 0)), (1, .ref (c + cs_va v1)), (2, .int a2), (3, .int a3), (4, .int a4)]) rfl ?_
  refine zs_iload_n (pc := 0) 3 dX0_waysOf_0 rfl rfl ?_
  refine zs_iconst (pc := 1) (v := 1) dX0_waysOf_1 rfl ?_
  refine zs_iload (pc := 2) 4 dX0_waysOf_2 rfl ?_
  refine zs_ishl (pc := 4) dX0_waysOf_4 ?_
  refine zs_iconst (pc := 5) (v := (-1)) dX0_waysOf_5 rfl ?_
  refine zs_ixor (pc := 6) dX0_waysOf_6 ?_
  refine zs_iand (pc := 7) dX0_waysOf_7 ?_
  refine zs_nm (fun x1 => ?_)
  refine zs_istore (pc := 8) (lv' := [(0, .ref (c + 0)), (1, .ref (c + cs_va v1)), (2, .int a2), (3, .int a3), (4, .int a4), (5, .int x1)]) [1, 2, 3, 4, 5, 0] dX0_waysOf_8 (by decide) rfl ?_
  refine zs_iconst (pc := 10) (v := 0) dX0_waysOf_10 rfl ?_
  refine zs_istore (pc := 11) (lv' := [(0, .ref (c + 0)), (1, .ref (c + cs_va v1)), (2, .int a2), (3, .int a3), (4, .int a4), (5, .int x1), (6, .int 0)]) [1, 2, 3, 4, 5, 6, 0] dX0_waysOf_11 (by decide) rfl ?_
  refine zs_aload_n (pc := 13) 1 dX0_waysOf_13 rfl rfl ?_
  refine zs_iload (pc := 14) 4 dX0_waysOf_14 rfl ?_
  refine zs_callVrI (pc := 16) [.int a4] [] (kv_xlongOf D W P h0 c M v1 (by omega) a4) wv_longOf q1374 zc_X5 (cs_rcvv (by omega)) dX0_waysOf_16 rfl rfl (Nat.le_of_ble_eq_true rfl) (Nat.le_of_ble_eq_true rfl) (fun x2 => ?_)
  refine zs_if_eq (pc := 19) (tgt := 44) dX0_waysOf_19 (by decide) ?_ ?_
  · refine zs_iconst (pc := 44) (v := 0) dX0_waysOf_44 rfl ?_
    exact zs_iret (pc := 45) dX0_waysOf_45 rfl rfl rfl
  · refine zs_iload_n (pc := 22) 2 dX0_waysOf_22 rfl rfl ?_
    refine zs_aload_n (pc := 23) 0 dX0_waysOf_23 rfl rfl ?_
    refine cs_getr (pc := 24) 0 0 16 (v := .ref (c + 147)) ⟨⟨by decide, by decide⟩, rfl⟩ zc_X0 ⟨rfl, rfl⟩ (by decide) rfl rfl q545 dX0_waysOf_24 ?_
    refine zs_iload (pc := 27) 5 dX0_waysOf_27 rfl ?_
    refine cs_iald (pc := 29) 147 0 16 ⟨⟨by decide, by decide⟩, rfl, rfl, rfl⟩ dX0_waysOf_29 (fun x3 => ?_)
    refine zs_iadd (pc := 30) dX0_waysOf_30 ?_
    refine zs_aload_n (pc := 31) 1 dX0_waysOf_31 rfl rfl ?_
    refine zs_aload_n (pc := 32) 0 dX0_waysOf_32 rfl rfl ?_
    refine cs_getr (pc := 33) 0 0 3 (v := .ref (zt_ad W.2.1 0)) ⟨⟨by decide, by decide⟩, rfl⟩ zc_X0 ⟨rfl, rfl⟩ (by decide) rfl rfl q532 dX0_waysOf_33 ?_
    refine zs_iload (pc := 36) 4 dX0_waysOf_36 rfl ?_
    refine zs_callVrI (pc := 38) [.ref (zt_ad W.2.1 0), .int a4] [.int (a2 + x3)] (kv_xstrength D W P h0 c M v1 (by omega) a4) wv_strength q1382 zc_X5 (cs_rcvv (by omega)) dX0_waysOf_38 rfl rfl (Nat.le_of_ble_eq_true rfl) (Nat.le_of_ble_eq_true rfl) (fun x4 => ?_)
    refine zs_icmp_le (pc := 41) (tgt := 46) dX0_waysOf_41 (by decide) ?_ ?_
    · refine zs_iconst (pc := 44) (v := 0) dX0_waysOf_44 rfl ?_
      exact zs_iret (pc := 45) dX0_waysOf_45 rfl rfl rfl
    · refine zs_iload (pc := 46) 5 dX0_waysOf_46 rfl ?_
      refine zs_if_ne (pc := 48) (tgt := 53) dX0_waysOf_48 (by decide) ?_ ?_
      · refine zs_iconst (pc := 51) (v := 1) dX0_waysOf_51 rfl ?_
        exact zs_iret (pc := 52) dX0_waysOf_52 rfl rfl rfl
      · refine zs_iconst (pc := 53) (v := 0) dX0_waysOf_53 rfl ?_
        refine zs_istore (pc := 54) (lv' := [(0, .ref (c + 0)), (1, .ref (c + cs_va v1)), (2, .int a2), (3, .int a3), (4, .int a4), (5, .int x1), (6, .int 0), (7, .int 0)]) [1, 2, 3, 4, 5, 6, 7, 0] dX0_waysOf_54 (by decide) rfl ?_
        refine zs_sub (pc := 56) (lv' := [(0, .ref (c + 0)), (2, .int a2), (4, .int a4), (5, .int x1), (6, .int 0), (7, .int 0)]) [0, 2, 4, 5, 6, 7] rfl ?_
        refine zs_whileX (pc := 56) (fun (t56 : Int32 × Int32) => M) (fun (t56 : Int32 × Int32) => [(0, .ref (c + 0)), (2, .int a2), (4, .int a4), (5, .int x1), (6, .int t56.1), (7, .int t56.2)]) 5000 (0, 0) (fun X56 hL56 hR56 t56 => ?_)
        unfold gh_waysOf_L56
        refine zs_iload (pc := 56) 5 dX0_waysOf_56 rfl ?_
        refine zs_aload_n (pc := 58) 0 dX0_waysOf_58 rfl rfl ?_
        refine zs_callVrI (pc := 59) [] [.int t56.2] (kh_houses D W P h0 c M) wh_houses q1124 zc_X0 cs_rcv0 dX0_waysOf_59 rfl rfl (Nat.le_of_ble_eq_true rfl) (Nat.le_of_ble_eq_true rfl) (fun x5 => ?_)
        refine zs_icmp_ge (pc := 62) (tgt := 108) dX0_waysOf_62 (by decide) ?_ ?_
        · refine zs_iload_n (pc := 65) 1 dX0_waysOf_65 rfl rfl ?_
          refine zs_aload_n (pc := 66) 0 dX0_waysOf_66 rfl rfl ?_
          refine cs_getr (pc := 67) 0 0 16 (v := .ref (c + 147)) ⟨⟨by decide, by decide⟩, rfl⟩ zc_X0 ⟨rfl, rfl⟩ (by decide) rfl rfl q545 dX0_waysOf_67 ?_
          refine zs_iload (pc := 70) 3 dX0_waysOf_70 rfl ?_
          refine cs_iald (pc := 72) 147 0 16 ⟨⟨by decide, by decide⟩, rfl, rfl, rfl⟩ dX0_waysOf_72 (fun x6 => ?_)
          refine zs_iadd (pc := 73) dX0_waysOf_73 ?_
          refine zs_aload_n (pc := 74) 0 dX0_waysOf_74 rfl rfl ?_
          refine cs_getr (pc := 75) 0 0 15 (v := .ref (c + 140)) ⟨⟨by decide, by decide⟩, rfl⟩ zc_X0 ⟨rfl, rfl⟩ (by decide) rfl rfl q544 dX0_waysOf_75 ?_
          refine zs_iload (pc := 78) 2 dX0_waysOf_78 rfl ?_
          refine cs_join (pc := 80) dX0_waysOf_80 (fun k7 hk7 => ?_)
          refine zs_iload (pc := 81) 5 dX0_waysOf_81 rfl ?_
          refine cs_iald (pc := 83) (141 + k7) 61 k7 (cs_pjoin hk7) dX0_waysOf_83 (fun x8 => ?_)
          refine zs_join (pc := 84) (fun (p9 : Int32) => M) 102 (fun (p9 : Int32) => [(0, .ref (c + 0)), (2, .int a2), (4, .int a4), (5, .int x1), (6, .int p9), (7, .int t56.2)]) (fun (p9 : Int32) => []) (fun p9 => ?_) (fun h102 => ?_)
          · refine zs_iinc (pc := 102) (lv' := [(0, .ref (c + 0)), (2, .int a2), (4, .int a4), (5, .int x1), (6, .int p9), (7, .int (t56.2 + 1))]) 5 [1, 2, 3, 4, 5, 0] dX0_waysOf_102 rfl rfl (by decide) rfl ?_
            refine zs_goto (pc := 105) (tgt := 56) dX0_waysOf_105 (by decide) ?_
            exact hL56 (p9, (t56.2 + 1))
          · refine zs_icmp_gt (pc := 84) (tgt := 102) dX0_waysOf_84 (by decide) ?_ ?_
            · exact h102 t56.1
            · refine zs_iload (pc := 87) 4 dX0_waysOf_87 rfl ?_
              refine zs_aload_n (pc := 89) 0 dX0_waysOf_89 rfl rfl ?_
              refine cs_getr (pc := 90) 0 0 14 (v := .ref (c + 75)) ⟨⟨by decide, by decide⟩, rfl⟩ zc_X0 ⟨rfl, rfl⟩ (by decide) rfl rfl q543 dX0_waysOf_90 ?_
              refine zs_iload (pc := 93) 3 dX0_waysOf_93 rfl ?_
              refine cs_ways (pc := 95) dX0_waysOf_95 (fun k10 hk10 => ?_)
              refine zs_iload (pc := 96) 5 dX0_waysOf_96 rfl ?_
              refine cs_iald (pc := 98) (76 + k10) 60 k10 (cs_pways hk10) dX0_waysOf_98 (fun x11 => ?_)
              refine zs_iadd (pc := 99) dX0_waysOf_99 ?_
              refine zs_nm (fun x12 => ?_)
              refine zs_istore (pc := 100) (lv' := [(0, .ref (c + 0)), (2, .int a2), (4, .int a4), (5, .int x1), (6, .int x12), (7, .int t56.2)]) [1, 2, 3, 4, 0, 5] dX0_waysOf_100 (by decide) rfl ?_
              exact h102 x12
        · refine zs_iload (pc := 108) 4 dX0_waysOf_108 rfl ?_
          exact zs_iret (pc := 110) dX0_waysOf_110 ((hR56 _).trans rfl) rfl rfl
theorem wh_laysWays : zs_mV RX0 yX0_laysWays cX0_laysWays 6 none 2 := ⟨q1364, qs43, q134, q1365, by decide, by decide +kernel⟩
def gh_laysWays_L42 (T : zt_T) (t2 : Int32 × cs_S) (v1 : Nat) (a2 : Int32) : (Int32 × cs_S) → Option ((Int32 × cs_S) ⊕ (cs_S)) := fun t42 =>
(gh_houses T t42.2).bind fun x6 =>
if t42.1 < x6 then ((zs_ix 64 t2.1).bind fun k7 =>
(if ((zs_shr t2.1 t42.1) &&& 1) = 1 then ((gh_waysOf T t42.2 v1 a2 t2.1 t42.1).bind fun x10 =>
some x10)
else (some 0)).bind fun (p8 : Int32) =>
(zs_ast 6 t42.1 (cs_sA t42.2 60 k7 t42.1 p8)).bind fun M9 =>
some (Sum.inl ((t42.1 + 1), M9)))
else (some (Sum.inr t42.2))
def gh_laysWays_L2 (T : zt_T) (v1 : Nat) (a2 : Int32) : (Int32 × cs_S) → Option ((Int32 × cs_S) ⊕ (cs_S)) := fun t2 =>
(gh_allHouses T t2.2).bind fun x1 =>
if t2.1 < x1 then ((g_J16_numberOfTrailingZeros t2.1).bind fun x2 =>
(zs_ald 64 (t2.2.2 0 16) (t2.1 &&& (t2.1 - 1))).bind fun x3 =>
(gv_longOf T t2.2 v1 x2).bind fun x4 =>
(zs_ast 64 t2.1 (cs_sA t2.2 0 16 t2.1 (x3 + x4))).bind fun M5 =>
(zs_loop 5000 (gh_laysWays_L42 T t2 v1 a2) (0, M5)).bind fun (r11 : cs_S) =>
some (Sum.inl ((t2.1 + 1), r11)))
else (some (Sum.inr t2.2))
def gh_laysWays (T : zt_T) (M : cs_S) (v1 : Nat) (a2 : Int32) : Option (cs_S) :=
(zs_loop 5000 (gh_laysWays_L2 T v1 a2) (1, M)).bind fun z => some z
set_option maxHeartbeats 4000000 in
theorem kh_laysWays (D : zs_D) (W : cs_W) (P : Nat → Bool) (h0 : zs_AH) (c : Nat) (M : cs_S) (v1 : Nat) (hv1 : v1 < 45) (a2 : Int32) : zs_Con D (cs_R W P h0 c) cs_bd zs_eV yX0_laysWays cX0_laysWays 6 none 6 [.ref (c + 0), .ref (c + cs_va v1), .int a2] M ((gh_laysWays W.2.1 M v1 a2).map fun x => ((), x)) := by
  unfold gh_laysWays
  refine zs_conV (own := RX0) (nm := "laysWays") pl_X0 rfl rfl (Nat.le_of_ble_eq_true rfl) ?_
  refine zs_lv (lv' := [(0, .ref (c + 0)), (1, .ref (c + cs_va v1)), (2, .int a2)]) rfl ?_
  refine zs_iconst (pc := 0) (v := 1) dX0_laysWays_0 rfl ?_
  refine zs_istore_n (pc := 1) (lv' := [(0, .ref (c + 0)), (1, .ref (c + cs_va v1)), (2, .int a2), (3, .int 1)]) [1, 2, 3, 0] dX0_laysWays_1 rfl (by decide) rfl ?_
  refine zs_whileX (pc := 2) (fun (t2 : Int32 × cs_S) => t2.2) (fun (t2 : Int32 × cs_S) => [(0, .ref (c + 0)), (1, .ref (c + cs_va v1)), (2, .int a2), (3, .int t2.1)]) 5000 (1, M) (fun X2 hL2 hR2 t2 => ?_)
  unfold gh_laysWays_L2
  refine zs_iload_n (pc := 2) 3 dX0_laysWays_2 rfl rfl ?_
  refine zs_aload_n (pc := 3) 0 dX0_laysWays_3 rfl rfl ?_
  refine zs_callVrI (pc := 4) [] [.int t2.1] (kh_allHouses D W P h0 c t2.2) wh_allHouses q1366 zc_X0 cs_rcv0 dX0_laysWays_4 rfl rfl (Nat.le_of_ble_eq_true rfl) (Nat.le_of_ble_eq_true rfl) (fun x1 => ?_)
  refine zs_icmp_ge (pc := 7) (tgt := 95) dX0_laysWays_7 (by decide) ?_ ?_
  · refine zs_iload_n (pc := 10) 3 dX0_laysWays_10 rfl rfl ?_
    refine zs_callSrI (pc := 11) [.int t2.1] [] (k_J16_numberOfTrailingZeros D _ _ t2.2 t2.1) kv_J16_numberOfTrailingZeros q1370 dX0_laysWays_11 rfl rfl (Nat.le_of_ble_eq_true rfl) (Nat.le_of_ble_eq_true rfl) (fun x2 => ?_)
    refine zs_istore (pc := 14) (lv' := [(0, .ref (c + 0)), (1, .ref (c + cs_va v1)), (2, .int a2), (3, .int t2.1), (4, .int x2)]) [1, 2, 3, 4, 0] dX0_laysWays_14 (by decide) rfl ?_
    refine zs_aload_n (pc := 16) 0 dX0_laysWays_16 rfl rfl ?_
    refine cs_getr (pc := 17) 0 0 16 (v := .ref (c + 147)) ⟨⟨by decide, by decide⟩, rfl⟩ zc_X0 ⟨rfl, rfl⟩ (by decide) rfl rfl q545 dX0_laysWays_17 ?_
    refine zs_iload_n (pc := 20) 3 dX0_laysWays_20 rfl rfl ?_
    refine zs_aload_n (pc := 21) 0 dX0_laysWays_21 rfl rfl ?_
    refine cs_getr (pc := 22) 0 0 16 (v := .ref (c + 147)) ⟨⟨by decide, by decide⟩, rfl⟩ zc_X0 ⟨rfl, rfl⟩ (by decide) rfl rfl q545 dX0_laysWays_22 ?_
    refine zs_iload_n (pc := 25) 3 dX0_laysWays_25 rfl rfl ?_
    refine zs_iload_n (pc := 26) 3 dX0_laysWays_26 rfl rfl ?_
    refine zs_iconst (pc := 27) (v := 1) dX0_laysWays_27 rfl ?_
    refine zs_isub (pc := 28) dX0_laysWays_28 ?_
    refine zs_iand (pc := 29) dX0_laysWays_29 ?_
    refine cs_iald (pc := 30) 147 0 16 ⟨⟨by decide, by decide⟩, rfl, rfl, rfl⟩ dX0_laysWays_30 (fun x3 => ?_)
    refine zs_aload_n (pc := 31) 1 dX0_laysWays_31 rfl rfl ?_
    refine zs_iload (pc := 32) 4 dX0_laysWays_32 rfl ?_
    refine zs_callVrI (pc := 34) [.int x2] [.int x3, .int t2.1, .ref (c + 147)] (kv_xlongOf D W P h0 c t2.2 v1 (by omega) x2) wv_longOf q1374 zc_X5 (cs_rcvv (by omega)) dX0_laysWays_34 rfl rfl (Nat.le_of_ble_eq_true rfl) (Nat.le_of_ble_eq_true rfl) (fun x4 => ?_)
    refine zs_iadd (pc := 37) dX0_laysWays_37 ?_
    refine cs_iast (pc := 38) 147 0 16 ⟨⟨by decide, by decide⟩, rfl, rfl, rfl⟩ dX0_laysWays_38 (fun M5 => ?_)
    refine zs_iconst (pc := 39) (v := 0) dX0_laysWays_39 rfl ?_
    refine zs_istore (pc := 40) (lv' := [(0, .ref (c + 0)), (1, .ref (c + cs_va v1)), (2, .int a2), (3, .int t2.1), (4, .int x2), (5, .int 0)]) [1, 2, 3, 4, 5, 0] dX0_laysWays_40 (by decide) rfl ?_
    refine zs_sub (pc := 42) (lv' := [(0, .ref (c + 0)), (1, .ref (c + cs_va v1)), (2, .int a2), (3, .int t2.1), (5, .int 0)]) [0, 1, 2, 3, 5] rfl ?_
    refine zs_whileJ (pc := 42) (fun (t42 : Int32 × cs_S) => t42.2) (fun (t42 : Int32 × cs_S) => [(0, .ref (c + 0)), (1, .ref (c + cs_va v1)), (2, .int a2), (3, .int t2.1), (5, .int t42.1)]) 5000 (0, M5) (fun (r11 : cs_S) => r11) 89 (fun (r11 : cs_S) => [(0, .ref (c + 0)), (1, .ref (c + cs_va v1)), (2, .int a2), (3, .int t2.1)]) [] (fun r11 => ?_) (fun X42 hL42 hE42 t42 => ?_)
    · refine zs_iinc (pc := 89) (lv' := [(0, .ref (c + 0)), (1, .ref (c + cs_va v1)), (2, .int a2), (3, .int (t2.1 + 1))]) 3 [1, 2, 3, 0] dX0_laysWays_89 rfl rfl (by decide) rfl ?_
      refine zs_goto (pc := 92) (tgt := 2) dX0_laysWays_92 (by decide) ?_
      exact hL2 ((t2.1 + 1), r11)
    · unfold gh_laysWays_L42
      refine zs_iload (pc := 42) 4 dX0_laysWays_42 rfl ?_
      refine zs_aload_n (pc := 44) 0 dX0_laysWays_44 rfl rfl ?_
      refine zs_callVrI (pc := 45) [] [.int t42.1] (kh_houses D W P h0 c t42.2) wh_houses q1124 zc_X0 cs_rcv0 dX0_laysWays_45 rfl rfl (Nat.le_of_ble_eq_true rfl) (Nat.le_of_ble_eq_true rfl) (fun x6 => ?_)
      refine zs_icmp_ge (pc := 48) (tgt := 89) dX0_laysWays_48 (by decide) ?_ ?_
      · refine zs_aload_n (pc := 51) 0 dX0_laysWays_51 rfl rfl ?_
        refine cs_getr (pc := 52) 0 0 14 (v := .ref (c + 75)) ⟨⟨by decide, by decide⟩, rfl⟩ zc_X0 ⟨rfl, rfl⟩ (by decide) rfl rfl q543 dX0_laysWays_52 ?_
        refine zs_iload_n (pc := 55) 3 dX0_laysWays_55 rfl rfl ?_
        refine cs_ways (pc := 56) dX0_laysWays_56 (fun k7 hk7 => ?_)
        refine zs_iload (pc := 57) 4 dX0_laysWays_57 rfl ?_
        refine zs_iload_n (pc := 59) 3 dX0_laysWays_59 rfl rfl ?_
        refine zs_iload (pc := 60) 4 dX0_laysWays_60 rfl ?_
        refine zs_ishr (pc := 62) dX0_laysWays_62 ?_
        refine zs_iconst (pc := 63) (v := 1) dX0_laysWays_63 rfl ?_
        refine zs_iand (pc := 64) dX0_laysWays_64 ?_
        refine zs_iconst (pc := 65) (v := 1) dX0_laysWays_65 rfl ?_
        refine zs_join (pc := 66) (fun (p8 : Int32) => t42.2) 82 (fun (p8 : Int32) => [(0, .ref (c + 0)), (1, .ref (c + cs_va v1)), (2, .int a2), (3, .int t2.1), (5, .int t42.1)]) (fun (p8 : Int32) => [.int p8, .int t42.1, .ref (c + (76 + k7))]) (fun p8 => ?_) (fun h82 => ?_)
        · refine cs_iast (pc := 82) (76 + k7) 60 k7 (cs_pways hk7) dX0_laysWays_82 (fun M9 => ?_)
          refine zs_iinc (pc := 83) (lv' := [(0, .ref (c + 0)), (1, .ref (c + cs_va v1)), (2, .int a2), (3, .int t2.1), (5, .int (t42.1 + 1))]) 4 [1, 2, 3, 4, 0] dX0_laysWays_83 rfl rfl (by decide) rfl ?_
          refine zs_goto (pc := 86) (tgt := 42) dX0_laysWays_86 (by decide) ?_
          exact hL42 ((t42.1 + 1), M9)
        · refine zs_icmp_ne (pc := 66) (tgt := 81) dX0_laysWays_66 (by decide) ?_ ?_
          · refine zs_aload_n (pc := 69) 0 dX0_laysWays_69 rfl rfl ?_
            refine zs_aload_n (pc := 70) 1 dX0_laysWays_70 rfl rfl ?_
            refine zs_iload_n (pc := 71) 2 dX0_laysWays_71 rfl rfl ?_
            refine zs_iload_n (pc := 72) 3 dX0_laysWays_72 rfl rfl ?_
            refine zs_iload (pc := 73) 4 dX0_laysWays_73 rfl ?_
            refine zs_callVrI (pc := 75) [.ref (c + cs_va v1), .int a2, .int t2.1, .int t42.1] [.int t42.1, .ref (c + (76 + k7))] (kh_waysOf D W P h0 c t42.2 v1 (by omega) a2 t2.1 t42.1) wh_waysOf q1378 zc_X0 cs_rcv0 dX0_laysWays_75 rfl rfl (Nat.le_of_ble_eq_true rfl) (Nat.le_of_ble_eq_true rfl) (fun x10 => ?_)
            refine zs_goto (pc := 78) (tgt := 82) dX0_laysWays_78 (by decide) ?_
            exact h82 x10
          · refine zs_iconst (pc := 81) (v := 0) dX0_laysWays_81 rfl ?_
            exact h82 0
      · refine zs_sub (lv' := [(0, .ref (c + 0)), (1, .ref (c + cs_va v1)), (2, .int a2), (3, .int t2.1)]) [0, 1, 2, 3] rfl ?_
        exact hE42 t42.2
  · exact zs_vret (pc := 95) dX0_laysWays_95 ((hR2 _).trans rfl) rfl
theorem wh_reaching : zs_mV RX0 yX0_reaching cX0_reaching 4 (some .int) 1 := ⟨q1385, qs46, q134, q1386, by decide, by decide +kernel⟩
def gh_reaching_L4 (T : zt_T) (M : cs_S) (a1 : Int32) : (Int32 × Int32) → Option ((Int32 × Int32) ⊕ (Int32)) := fun t4 =>
(gh_houses T M).bind fun x1 =>
if t4.2 < x1 then ((zs_ald 64 (M.2 0 16) a1).bind fun x2 =>
if x2 < (zt_f T 4) then (some (Sum.inr t4.1))
else ((zs_ix 64 a1).bind fun k3 =>
(zs_ald 6 (M.2 60 k3) t4.2).bind fun x4 =>
(some (t4.1 + x4)).bind fun x5 =>
some (Sum.inl (x5, (t4.2 + 1)))))
else (some (Sum.inr t4.1))
def gh_reaching (T : zt_T) (M : cs_S) (a1 : Int32) : Option (Int32) :=
(zs_loop 5000 (gh_reaching_L4 T M a1) (0, 0)).bind fun z => some z
set_option maxHeartbeats 4000000 in
theorem kh_reaching (D : zs_D) (W : cs_W) (P : Nat → Bool) (h0 : zs_AH) (c : Nat) (M : cs_S) (a1 : Int32) : zs_Con D (cs_R W P h0 c) cs_bd zs_eI yX0_reaching cX0_reaching 4 (some .int) 2 [.ref (c + 0), .int a1] M ((gh_reaching W.2.1 M a1).map fun x => (x, M)) := by
  unfold gh_reaching
  refine zs_conR (own := RX0) (nm := "reaching") pl_X0 rfl rfl (Nat.le_of_ble_eq_true rfl) ?_
  refine zs_lv (lv' := [(0, .ref (c + 0)), (1, .int a1)]) rfl ?_
  refine zs_iconst (pc := 0) (v := 0) dX0_reaching_0 rfl ?_
  refine zs_istore_n (pc := 1) (lv' := [(0, .ref (c + 0)), (1, .int a1), (2, .int 0)]) [1, 2, 0] dX0_reaching_1 rfl (by decide) rfl ?_
  refine zs_iconst (pc := 2) (v := 0) dX0_reaching_2 rfl ?_
  refine zs_istore_n (pc := 3) (lv' := [(0, .ref (c + 0)), (1, .int a1), (2, .int 0), (3, .int 0)]) [1, 2, 3, 0] dX0_reaching_3 rfl (by decide) rfl ?_
  refine zs_whileX (pc := 4) (fun (t4 : Int32 × Int32) => M) (fun (t4 : Int32 × Int32) => [(0, .ref (c + 0)), (1, .int a1), (2, .int t4.1), (3, .int t4.2)]) 5000 (0, 0) (fun X4 hL4 hR4 t4 => ?_)
  unfold gh_reaching_L4
  refine zs_iload_n (pc := 4) 3 dX0_reaching_4 rfl rfl ?_
  refine zs_aload_n (pc := 5) 0 dX0_reaching_5 rfl rfl ?_
  refine zs_callVrI (pc := 6) [] [.int t4.2] (kh_houses D W P h0 c M) wh_houses q1124 zc_X0 cs_rcv0 dX0_reaching_6 rfl rfl (Nat.le_of_ble_eq_true rfl) (Nat.le_of_ble_eq_true rfl) (fun x1 => ?_)
  refine zs_icmp_ge (pc := 9) (tgt := 45) dX0_reaching_9 (by decide) ?_ ?_
  · refine zs_aload_n (pc := 12) 0 dX0_reaching_12 rfl rfl ?_
    refine cs_getr (pc := 13) 0 0 16 (v := .ref (c + 147)) ⟨⟨by decide, by decide⟩, rfl⟩ zc_X0 ⟨rfl, rfl⟩ (by decide) rfl rfl q545 dX0_reaching_13 ?_
    refine zs_iload_n (pc := 16) 1 dX0_reaching_16 rfl rfl ?_
    refine cs_iald (pc := 17) 147 0 16 ⟨⟨by decide, by decide⟩, rfl, rfl, rfl⟩ dX0_reaching_17 (fun x2 => ?_)
    refine zs_aload_n (pc := 18) 0 dX0_reaching_18 rfl rfl ?_
    refine cs_getr (pc := 19) 0 0 3 (v := .ref (zt_ad W.2.1 0)) ⟨⟨by decide, by decide⟩, rfl⟩ zc_X0 ⟨rfl, rfl⟩ (by decide) rfl rfl q532 dX0_reaching_19 ?_
    refine ct_num (pc := 22) 4 (by decide) q390 dX0_reaching_22 ?_
    refine zs_icmp_lt (pc := 25) (tgt := 45) dX0_reaching_25 (by decide) ?_ ?_
    · refine zs_iload_n (pc := 45) 2 dX0_reaching_45 rfl rfl ?_
      exact zs_iret (pc := 46) dX0_reaching_46 ((hR4 _).trans rfl) rfl rfl
    · refine zs_iload_n (pc := 28) 2 dX0_reaching_28 rfl rfl ?_
      refine zs_aload_n (pc := 29) 0 dX0_reaching_29 rfl rfl ?_
      refine cs_getr (pc := 30) 0 0 14 (v := .ref (c + 75)) ⟨⟨by decide, by decide⟩, rfl⟩ zc_X0 ⟨rfl, rfl⟩ (by decide) rfl rfl q543 dX0_reaching_30 ?_
      refine zs_iload_n (pc := 33) 1 dX0_reaching_33 rfl rfl ?_
      refine cs_ways (pc := 34) dX0_reaching_34 (fun k3 hk3 => ?_)
      refine zs_iload_n (pc := 35) 3 dX0_reaching_35 rfl rfl ?_
      refine cs_iald (pc := 36) (76 + k3) 60 k3 (cs_pways hk3) dX0_reaching_36 (fun x4 => ?_)
      refine zs_iadd (pc := 37) dX0_reaching_37 ?_
      refine zs_nm (fun x5 => ?_)
      refine zs_istore_n (pc := 38) (lv' := [(0, .ref (c + 0)), (1, .int a1), (2, .int x5), (3, .int t4.2)]) [1, 2, 0, 3] dX0_reaching_38 rfl (by decide) rfl ?_
      refine zs_iinc (pc := 39) (lv' := [(0, .ref (c + 0)), (1, .int a1), (2, .int x5), (3, .int (t4.2 + 1))]) 3 [1, 2, 3, 0] dX0_reaching_39 rfl rfl (by decide) rfl ?_
      refine zs_goto (pc := 42) (tgt := 4) dX0_reaching_42 (by decide) ?_
      exact hL4 (x5, (t4.2 + 1))
  · refine zs_iload_n (pc := 45) 2 dX0_reaching_45 rfl rfl ?_
    exact zs_iret (pc := 46) dX0_reaching_46 ((hR4 _).trans rfl) rfl rfl
theorem wh_laysOrders : zs_mV RX0 yX0_laysOrders cX0_laysOrders 5 (some .int) 2 := ⟨q1360, qs42, q134, q1361, by decide, by decide +kernel⟩
def gh_laysOrders_L11 (T : zt_T) (M1 : cs_S) : (Int32 × Int32) → Option ((Int32 × Int32) ⊕ (Int32 × cs_S)) := fun t11 =>
(gh_allHouses T M1).bind fun x2 =>
if t11.2 < x2 then ((gh_reaching T M1 t11.2).bind fun x3 =>
(some (t11.1 + x3)).bind fun x4 =>
some (Sum.inl (x4, (t11.2 + 1))))
else (some (Sum.inr (t11.1, M1)))
def gh_laysOrders (T : zt_T) (M : cs_S) (v1 : Nat) (a2 : Int32) : Option (Int32 × cs_S) :=
(gh_laysWays T M v1 a2).bind fun M1 =>
(zs_loop 5000 (gh_laysOrders_L11 T M1) (0, 1)).bind fun z => some z
set_option maxHeartbeats 4000000 in
theorem kh_laysOrders (D : zs_D) (W : cs_W) (P : Nat → Bool) (h0 : zs_AH) (c : Nat) (M : cs_S) (v1 : Nat) (hv1 : v1 < 45) (a2 : Int32) : zs_Con D (cs_R W P h0 c) cs_bd zs_eI yX0_laysOrders cX0_laysOrders 5 (some .int) 7 [.ref (c + 0), .ref (c + cs_va v1), .int a2] M (gh_laysOrders W.2.1 M v1 a2) := by
  unfold gh_laysOrders
  refine zs_con (own := RX0) (nm := "laysOrders") pl_X0 rfl rfl (Nat.le_of_ble_eq_true rfl) ?_
  refine zs_lv (lv' := [(0, .ref (c + 0)), (1, .ref (c + cs_va v1)), (2, .int a2)]) rfl ?_
  refine zs_iconst (pc := 0) (v := 0) dX0_laysOrders_0 rfl ?_
  refine zs_istore_n (pc := 1) (lv' := [(0, .ref (c + 0)), (1, .ref (c + cs_va v1)), (2, .int a2), (3, .int 0)]) [1, 2, 3, 0] dX0_laysOrders_1 rfl (by decide) rfl ?_
  refine zs_aload_n (pc := 2) 0 dX0_laysOrders_2 rfl rfl ?_
  refine zs_aload_n (pc := 3) 1 dX0_laysOrders_3 rfl rfl ?_
  refine zs_iload_n (pc := 4) 2 dX0_laysOrders_4 rfl rfl ?_
  refine zs_callVv (pc := 5) [.ref (c + cs_va v1), .int a2] [] (kh_laysWays D W P h0 c M v1 (by omega) a2) wh_laysWays q1362 zc_X0 cs_rcv0 dX0_laysOrders_5 rfl rfl (Nat.le_of_ble_eq_true rfl) (Nat.le_of_ble_eq_true rfl) (fun M1 => ?_)
  refine zs_iconst (pc := 8) (v := 1) dX0_laysOrders_8 rfl ?_
  refine zs_istore (pc := 9) (lv' := [(0, .ref (c + 0)), (1, .ref (c + cs_va v1)), (2, .int a2), (3, .int 0), (4, .int 1)]) [1, 2, 3, 4, 0] dX0_laysOrders_9 (by decide) rfl ?_
  refine zs_sub (pc := 11) (lv' := [(0, .ref (c + 0)), (3, .int 0), (4, .int 1)]) [0, 3, 4] rfl ?_
  refine zs_whileX (pc := 11) (fun (t11 : Int32 × Int32) => M1) (fun (t11 : Int32 × Int32) => [(0, .ref (c + 0)), (3, .int t11.1), (4, .int t11.2)]) 5000 (0, 1) (fun X11 hL11 hR11 t11 => ?_)
  unfold gh_laysOrders_L11
  refine zs_iload (pc := 11) 2 dX0_laysOrders_11 rfl ?_
  refine zs_aload_n (pc := 13) 0 dX0_laysOrders_13 rfl rfl ?_
  refine zs_callVrI (pc := 14) [] [.int t11.2] (kh_allHouses D W P h0 c M1) wh_allHouses q1366 zc_X0 cs_rcv0 dX0_laysOrders_14 rfl rfl (Nat.le_of_ble_eq_true rfl) (Nat.le_of_ble_eq_true rfl) (fun x2 => ?_)
  refine zs_icmp_ge (pc := 17) (tgt := 35) dX0_laysOrders_17 (by decide) ?_ ?_
  · refine zs_iload_n (pc := 20) 1 dX0_laysOrders_20 rfl rfl ?_
    refine zs_aload_n (pc := 21) 0 dX0_laysOrders_21 rfl rfl ?_
    refine zs_iload (pc := 22) 2 dX0_laysOrders_22 rfl ?_
    refine zs_callVrI (pc := 24) [.int t11.2] [.int t11.1] (kh_reaching D W P h0 c M1 t11.2) wh_reaching q1383 zc_X0 cs_rcv0 dX0_laysOrders_24 rfl rfl (Nat.le_of_ble_eq_true rfl) (Nat.le_of_ble_eq_true rfl) (fun x3 => ?_)
    refine zs_iadd (pc := 27) dX0_laysOrders_27 ?_
    refine zs_nm (fun x4 => ?_)
    refine zs_istore_n (pc := 28) (lv' := [(0, .ref (c + 0)), (3, .int x4), (4, .int t11.2)]) [1, 0, 2] dX0_laysOrders_28 rfl (by decide) rfl ?_
    refine zs_iinc (pc := 29) (lv' := [(0, .ref (c + 0)), (3, .int x4), (4, .int (t11.2 + 1))]) 2 [1, 2, 0] dX0_laysOrders_29 rfl rfl (by decide) rfl ?_
    refine zs_goto (pc := 32) (tgt := 11) dX0_laysOrders_32 (by decide) ?_
    exact hL11 (x4, (t11.2 + 1))
  · refine zs_iload_n (pc := 35) 1 dX0_laysOrders_35 rfl rfl ?_
    exact zs_iret (pc := 36) dX0_laysOrders_36 ((hR11 _).trans rfl) rfl rfl
theorem wh_orders : zs_mV RX0 yX0_orders cX0_orders 2 (some .int) 1 := ⟨q1351, q1352, q134, q1353, by decide, by decide +kernel⟩
def gh_orders (T : zt_T) (M : cs_S) (a1 : Int32) : Option (Int32 × cs_S) :=
(gh_isHaul a1).bind fun b1 =>
if b1 = true then ((gh_laysJoins T M 0).bind fun M2 =>
(gh_laysOrders T M2 0 a1).bind fun p3 =>
some (p3.1, p3.2))
else (some ((-1), M))
set_option maxHeartbeats 4000000 in
theorem kh_orders (D : zs_D) (W : cs_W) (P : Nat → Bool) (h0 : zs_AH) (c : Nat) (M : cs_S) (a1 : Int32) : zs_Con D (cs_R W P h0 c) cs_bd zs_eI yX0_orders cX0_orders 2 (some .int) 425 [.ref (c + 0), .int a1] M (gh_orders W.2.1 M a1) := by
  unfold gh_orders
  refine zs_con (own := RX0) (nm := "orders") pl_X0 rfl rfl (Nat.le_of_ble_eq_true rfl) ?_
  refine zs_lv (lv' := [(0, .ref (c + 0)), (1, .int a1)]) rfl ?_
  refine zs_iload_n (pc := 0) 1 dX0_orders_0 rfl rfl ?_
  refine zs_callSrB (pc := 1) [.int a1] [] (kh_isHaul D _ _ M a1) wh_isHaul q1245 dX0_orders_1 rfl rfl (Nat.le_of_ble_eq_true rfl) (Nat.le_of_ble_eq_true rfl) (fun b1 => ?_)
  refine zs_if_t (pc := 4) (tgt := 9) dX0_orders_4 (by decide) ?_ ?_
  · refine zs_aload_n (pc := 9) 0 dX0_orders_9 rfl rfl ?_
    refine zs_aload_n (pc := 10) 0 dX0_orders_10 rfl rfl ?_
    refine cs_getr (pc := 11) 0 0 7 (v := .ref (c + cs_va 0)) ⟨⟨by decide, by decide⟩, rfl⟩ zc_X0 ⟨rfl, rfl⟩ (by decide) rfl rfl q536 dX0_orders_11 ?_
    refine zs_callVv (pc := 14) [.ref (c + cs_va 0)] [] (kh_laysJoins D W P h0 c M 0 (by omega)) wh_laysJoins q1354 zc_X0 cs_rcv0 dX0_orders_14 rfl rfl (Nat.le_of_ble_eq_true rfl) (Nat.le_of_ble_eq_true rfl) (fun M2 => ?_)
    refine zs_aload_n (pc := 17) 0 dX0_orders_17 rfl rfl ?_
    refine zs_aload_n (pc := 18) 0 dX0_orders_18 rfl rfl ?_
    refine cs_getr (pc := 19) 0 0 7 (v := .ref (c + cs_va 0)) ⟨⟨by decide, by decide⟩, rfl⟩ zc_X0 ⟨rfl, rfl⟩ (by decide) rfl rfl q536 dX0_orders_19 ?_
    refine zs_iload_n (pc := 22) 1 dX0_orders_22 rfl rfl ?_
    refine zs_callVwI (pc := 23) [.ref (c + cs_va 0), .int a1] [] (kh_laysOrders D W P h0 c M2 0 (by omega) a1) wh_laysOrders q1358 zc_X0 cs_rcv0 dX0_orders_23 rfl rfl (Nat.le_of_ble_eq_true rfl) (Nat.le_of_ble_eq_true rfl) (fun p3 => ?_)
    exact zs_iret (pc := 26) dX0_orders_26 rfl rfl rfl
  · refine zs_iconst (pc := 7) (v := (-1)) dX0_orders_7 rfl ?_
    exact zs_iret (pc := 8) dX0_orders_8 rfl rfl rfl
theorem wh_peak : zs_mV RX0 yX0_peak cX0_peak 2 (some .int) 0 := ⟨q1388, q1389, q134, q1390, by decide, by decide +kernel⟩
def gh_peak_L12 (T : zt_T) : (Int32 × cs_S) → Option ((Int32 × cs_S) ⊕ (Int32 × cs_S)) := fun t12 =>
if t12.1 < 0 then (some (Sum.inr (t12.1, t12.2)))
else ((gh_laysOrders T t12.2 0 t12.1).bind fun p2 =>
if p2.1 = 0 then ((some p2.2).bind fun M3 =>
some (Sum.inl ((t12.1 + (-1)), M3)))
else (some (Sum.inr (t12.1, p2.2))))
def gh_peak (T : zt_T) (M : cs_S) : Option (Int32 × cs_S) :=
(gh_laysJoins T M 0).bind fun M1 =>
(zs_loop 5000 (gh_peak_L12 T) (999, M1)).bind fun (r4 : Int32 × cs_S) =>
if r4.1 < 0 then (some ((-2), r4.2))
else (some (r4.1, r4.2))
set_option maxHeartbeats 4000000 in
theorem kh_peak (D : zs_D) (W : cs_W) (P : Nat → Bool) (h0 : zs_AH) (c : Nat) (M : cs_S) : zs_Con D (cs_R W P h0 c) cs_bd zs_eI yX0_peak cX0_peak 2 (some .int) 425 [.ref (c + 0)] M (gh_peak W.2.1 M) := by
  unfold gh_peak
  refine zs_con (own := RX0) (nm := "peak") pl_X0 rfl rfl (Nat.le_of_ble_eq_true rfl) ?_
  refine zs_lv (lv' := [(0, .ref (c + 0))]) rfl ?_
  refine zs_aload_n (pc := 0) 0 dX0_peak_0 rfl rfl ?_
  refine zs_aload_n (pc := 1) 0 dX0_peak_1 rfl rfl ?_
  refine cs_getr (pc := 2) 0 0 7 (v := .ref (c + cs_va 0)) ⟨⟨by decide, by decide⟩, rfl⟩ zc_X0 ⟨rfl, rfl⟩ (by decide) rfl rfl q536 dX0_peak_2 ?_
  refine zs_callVv (pc := 5) [.ref (c + cs_va 0)] [] (kh_laysJoins D W P h0 c M 0 (by omega)) wh_laysJoins q1354 zc_X0 cs_rcv0 dX0_peak_5 rfl rfl (Nat.le_of_ble_eq_true rfl) (Nat.le_of_ble_eq_true rfl) (fun M1 => ?_)
  refine zs_sipush (pc := 8) (v := 999) dX0_peak_8 (by decide) ?_
  refine zs_istore_n (pc := 11) (lv' := [(0, .ref (c + 0)), (1, .int 999)]) [1, 0] dX0_peak_11 rfl (by decide) rfl ?_
  refine zs_whileJ (pc := 12) (fun (t12 : Int32 × cs_S) => t12.2) (fun (t12 : Int32 × cs_S) => [(0, .ref (c + 0)), (1, .int t12.1)]) 5000 (999, M1) (fun (r4 : Int32 × cs_S) => r4.2) 34 (fun (r4 : Int32 × cs_S) => [(1, .int r4.1)]) [] (fun r4 => ?_) (fun X12 hL12 hE12 t12 => ?_)
  · refine zs_iload_n (pc := 34) 0 dX0_peak_34 rfl rfl ?_
    refine zs_if_ge (pc := 35) (tgt := 43) dX0_peak_35 (by decide) ?_ ?_
    · refine zs_bipush (pc := 38) (v := (-2)) dX0_peak_38 (by decide) ?_
      refine zs_goto (pc := 40) (tgt := 44) dX0_peak_40 (by decide) ?_
      exact zs_iret (pc := 44) dX0_peak_44 rfl rfl rfl
    · refine zs_iload_n (pc := 43) 0 dX0_peak_43 rfl rfl ?_
      exact zs_iret (pc := 44) dX0_peak_44 rfl rfl rfl
  · unfold gh_peak_L12
    refine zs_iload_n (pc := 12) 1 dX0_peak_12 rfl rfl ?_
    refine zs_if_lt (pc := 13) (tgt := 34) dX0_peak_13 (by decide) ?_ ?_
    · refine zs_sub (lv' := [(1, .int t12.1)]) [1] rfl ?_
      exact hE12 (t12.1, t12.2)
    · refine zs_aload_n (pc := 16) 0 dX0_peak_16 rfl rfl ?_
      refine zs_aload_n (pc := 17) 0 dX0_peak_17 rfl rfl ?_
      refine cs_getr (pc := 18) 0 0 7 (v := .ref (c + cs_va 0)) ⟨⟨by decide, by decide⟩, rfl⟩ zc_X0 ⟨rfl, rfl⟩ (by decide) rfl rfl q536 dX0_peak_18 ?_
      refine zs_iload_n (pc := 21) 1 dX0_peak_21 rfl rfl ?_
      refine zs_callVwI (pc := 22) [.ref (c + cs_va 0), .int t12.1] [] (kh_laysOrders D W P h0 c t12.2 0 (by omega) t12.1) wh_laysOrders q1358 zc_X0 cs_rcv0 dX0_peak_22 rfl rfl (Nat.le_of_ble_eq_true rfl) (Nat.le_of_ble_eq_true rfl) (fun p2 => ?_)
      refine zs_if_ne (pc := 25) (tgt := 34) dX0_peak_25 (by decide) ?_ ?_
      · refine zs_iinc (pc := 28) (lv' := [(0, .ref (c + 0)), (1, .int (t12.1 + (-1)))]) 1 [1, 0] dX0_peak_28 rfl rfl (by decide) rfl ?_
        refine zs_goto (pc := 31) (tgt := 12) dX0_peak_31 (by decide) ?_
        refine zs_nmM (fun M3 => ?_)
        exact hL12 ((t12.1 + (-1)), M3)
      · refine zs_sub (lv' := [(1, .int t12.1)]) [1] rfl ?_
        exact hE12 (t12.1, p2.2)
theorem wh_laysRow : zs_mV RX0 yX0_laysRow cX0_laysRow 7 none 2 := ⟨q1404, qs47, q134, q1405, by decide, by decide +kernel⟩
def gh_laysRow_L15 (t8 : Int32 × Int32 × Int32 × cs_S) (a2 : Int32) : (Int32) → Option ((Int32) ⊕ (Int32)) := fun t15 =>
(zs_ix 64 t8.1).bind fun k1 =>
(zs_ald 6 (t8.2.2.2.2 60 k1) t15).bind fun x2 =>
zs_let (fun (p3 : Unit) => some (Sum.inl (t15 + 1))) fun J53 =>
if x2 = 0 then (J53 ())
else (if t8.2.1 < 0 then (some (Sum.inr t15))
else ((zs_ald 64 (t8.2.2.2.2 0 16) t8.1).bind fun x4 =>
(zs_ix 6 t8.2.1).bind fun k5 =>
(zs_ald 6 (t8.2.2.2.2 61 k5) t15).bind fun x6 =>
if x6 < (a2 + x4) then (J53 ())
else (some (Sum.inr t15))))
def gh_laysRow_L8 (a2 : Int32) : (Int32 × Int32 × Int32 × cs_S) → Option ((Int32 × Int32 × Int32 × cs_S) ⊕ (cs_S)) := fun t8 =>
if t8.1 = 0 then (some (Sum.inr t8.2.2.2))
else ((zs_loop 5000 (gh_laysRow_L15 t8 a2) 0).bind fun (r7 : Int32) =>
(zs_ast 6 t8.2.2.1 (cs_sA t8.2.2.2 0 18 t8.2.2.1 r7)).bind fun M8 =>
(some (t8.1 &&& ((zs_shl 1 r7) ^^^ (-1)))).bind fun x9 =>
some (Sum.inl (x9, r7, (t8.2.2.1 + 1), M8)))
def gh_laysRow (T : zt_T) (M : cs_S) (a1 : Int32) (a2 : Int32) : Option (cs_S) :=
(zs_loop 5000 (gh_laysRow_L8 a2) (a1, (-1), 0, M)).bind fun z => some z
set_option maxHeartbeats 4000000 in
theorem kh_laysRow (D : zs_D) (W : cs_W) (P : Nat → Bool) (h0 : zs_AH) (c : Nat) (M : cs_S) (a1 : Int32) (a2 : Int32) : zs_Con D (cs_R W P h0 c) cs_bd zs_eV yX0_laysRow cX0_laysRow 7 none 0 [.ref (c + 0), .int a1, .int a2] M ((gh_laysRow W.2.1 M a1 a2).map fun x => ((), x)) := by
  unfold gh_laysRow
  refine zs_conV (own := RX0) (nm := "laysRow") pl_X0 rfl rfl (Nat.le_of_ble_eq_true rfl) ?_
  refine zs_lv (lv' := [(0, .ref (c + 0)), (1, .int a1), (2, .int a2)]) rfl ?_
  refine zs_iload_n (pc := 0) 1 dX0_laysRow_0 rfl rfl ?_
  refine zs_istore_n (pc := 1) (lv' := [(0, .ref (c + 0)), (1, .int a1), (2, .int a2), (3, .int a1)]) [1, 2, 3, 0] dX0_laysRow_1 rfl (by decide) rfl ?_
  refine zs_iconst (pc := 2) (v := (-1)) dX0_laysRow_2 rfl ?_
  refine zs_istore (pc := 3) (lv' := [(0, .ref (c + 0)), (1, .int a1), (2, .int a2), (3, .int a1), (4, .int (-1))]) [1, 2, 3, 4, 0] dX0_laysRow_3 (by decide) rfl ?_
  refine zs_iconst (pc := 5) (v := 0) dX0_laysRow_5 rfl ?_
  refine zs_istore (pc := 6) (lv' := [(0, .ref (c + 0)), (1, .int a1), (2, .int a2), (3, .int a1), (4, .int (-1)), (5, .int 0)]) [1, 2, 3, 4, 5, 0] dX0_laysRow_6 (by decide) rfl ?_
  refine zs_sub (pc := 8) (lv' := [(0, .ref (c + 0)), (2, .int a2), (3, .int a1), (4, .int (-1)), (5, .int 0)]) [0, 2, 3, 4, 5] rfl ?_
  refine zs_whileX (pc := 8) (fun (t8 : Int32 × Int32 × Int32 × cs_S) => t8.2.2.2) (fun (t8 : Int32 × Int32 × Int32 × cs_S) => [(0, .ref (c + 0)), (2, .int a2), (3, .int t8.1), (4, .int t8.2.1), (5, .int t8.2.2.1)]) 5000 (a1, (-1), 0, M) (fun X8 hL8 hR8 t8 => ?_)
  unfold gh_laysRow_L8
  refine zs_iload_n (pc := 8) 2 dX0_laysRow_8 rfl rfl ?_
  refine zs_if_eq (pc := 9) (tgt := 87) dX0_laysRow_9 (by decide) ?_ ?_
  · exact zs_vret (pc := 87) dX0_laysRow_87 ((hR8 _).trans rfl) rfl
  · refine zs_iconst (pc := 12) (v := 0) dX0_laysRow_12 rfl ?_
    refine zs_istore (pc := 13) (lv' := [(0, .ref (c + 0)), (2, .int a2), (3, .int t8.1), (4, .int t8.2.1), (5, .int t8.2.2.1), (6, .int 0)]) [1, 2, 3, 4, 5, 0] dX0_laysRow_13 (by decide) rfl ?_
    refine zs_whileJ (pc := 15) (fun (t15 : Int32) => t8.2.2.2) (fun (t15 : Int32) => [(0, .ref (c + 0)), (2, .int a2), (3, .int t8.1), (4, .int t8.2.1), (5, .int t8.2.2.1), (6, .int t15)]) 5000 0 (fun (r7 : Int32) => t8.2.2.2) 59 (fun (r7 : Int32) => [(0, .ref (c + 0)), (2, .int a2), (3, .int t8.1), (5, .int t8.2.2.1), (6, .int r7)]) [] (fun r7 => ?_) (fun X15 hL15 hE15 t15 => ?_)
    · refine zs_aload_n (pc := 59) 0 dX0_laysRow_59 rfl rfl ?_
      refine cs_getr (pc := 60) 0 0 18 (v := .ref (c + 149)) ⟨⟨by decide, by decide⟩, rfl⟩ zc_X0 ⟨rfl, rfl⟩ (by decide) rfl rfl q547 dX0_laysRow_60 ?_
      refine zs_iload (pc := 63) 3 dX0_laysRow_63 rfl ?_
      refine zs_iload (pc := 65) 4 dX0_laysRow_65 rfl ?_
      refine cs_iast (pc := 67) 149 0 18 ⟨⟨by decide, by decide⟩, rfl, rfl, rfl⟩ dX0_laysRow_67 (fun M8 => ?_)
      refine zs_iload (pc := 68) 4 dX0_laysRow_68 rfl ?_
      refine zs_istore (pc := 70) (lv' := [(0, .ref (c + 0)), (2, .int a2), (3, .int t8.1), (4, .int r7), (5, .int t8.2.2.1), (6, .int r7)]) [1, 2, 3, 0, 4, 5] dX0_laysRow_70 (by decide) rfl ?_
      refine zs_iload_n (pc := 72) 2 dX0_laysRow_72 rfl rfl ?_
      refine zs_iconst (pc := 73) (v := 1) dX0_laysRow_73 rfl ?_
      refine zs_iload (pc := 74) 5 dX0_laysRow_74 rfl ?_
      refine zs_ishl (pc := 76) dX0_laysRow_76 ?_
      refine zs_iconst (pc := 77) (v := (-1)) dX0_laysRow_77 rfl ?_
      refine zs_ixor (pc := 78) dX0_laysRow_78 ?_
      refine zs_iand (pc := 79) dX0_laysRow_79 ?_
      refine zs_nm (fun x9 => ?_)
      refine zs_istore_n (pc := 80) (lv' := [(0, .ref (c + 0)), (2, .int a2), (3, .int x9), (4, .int r7), (5, .int t8.2.2.1), (6, .int r7)]) [1, 2, 0, 3, 4, 5] dX0_laysRow_80 rfl (by decide) rfl ?_
      refine zs_iinc (pc := 81) (lv' := [(0, .ref (c + 0)), (2, .int a2), (3, .int x9), (4, .int r7), (5, .int (t8.2.2.1 + 1)), (6, .int r7)]) 4 [1, 2, 3, 4, 0, 5] dX0_laysRow_81 rfl rfl (by decide) rfl ?_
      refine zs_goto (pc := 84) (tgt := 8) dX0_laysRow_84 (by decide) ?_
      refine zs_sub (lv' := [(0, .ref (c + 0)), (2, .int a2), (3, .int x9), (4, .int r7), (5, .int (t8.2.2.1 + 1))]) [0, 1, 2, 3, 4] rfl ?_
      exact hL8 (x9, r7, (t8.2.2.1 + 1), M8)
    · unfold gh_laysRow_L15
      refine zs_aload_n (pc := 15) 0 dX0_laysRow_15 rfl rfl ?_
      refine cs_getr (pc := 16) 0 0 14 (v := .ref (c + 75)) ⟨⟨by decide, by decide⟩, rfl⟩ zc_X0 ⟨rfl, rfl⟩ (by decide) rfl rfl q543 dX0_laysRow_16 ?_
      refine zs_iload_n (pc := 19) 2 dX0_laysRow_19 rfl rfl ?_
      refine cs_ways (pc := 20) dX0_laysRow_20 (fun k1 hk1 => ?_)
      refine zs_iload (pc := 21) 5 dX0_laysRow_21 rfl ?_
      refine cs_iald (pc := 23) (76 + k1) 60 k1 (cs_pways hk1) dX0_laysRow_23 (fun x2 => ?_)
      refine zs_letJ (pc := 24) (fun (p3 : Unit) => t8.2.2.2) 53 (fun (p3 : Unit) => [(0, .ref (c + 0)), (2, .int a2), (3, .int t8.1), (4, .int t8.2.1), (5, .int t8.2.2.1), (6, .int t15)]) (fun (p3 : Unit) => []) (fun p3 => ?_) (fun J53 h53 => ?_)
      · refine zs_iinc (pc := 53) (lv' := [(0, .ref (c + 0)), (2, .int a2), (3, .int t8.1), (4, .int t8.2.1), (5, .int t8.2.2.1), (6, .int (t15 + 1))]) 5 [1, 2, 3, 4, 5, 0] dX0_laysRow_53 rfl rfl (by decide) rfl ?_
        refine zs_goto (pc := 56) (tgt := 15) dX0_laysRow_56 (by decide) ?_
        exact hL15 (t15 + 1)
      · refine zs_if_eq (pc := 24) (tgt := 53) dX0_laysRow_24 (by decide) ?_ ?_
        · exact h53 ()
        · refine zs_iload (pc := 27) 3 dX0_laysRow_27 rfl ?_
          refine zs_if_lt (pc := 29) (tgt := 59) dX0_laysRow_29 (by decide) ?_ ?_
          · refine zs_sub (lv' := [(0, .ref (c + 0)), (2, .int a2), (3, .int t8.1), (5, .int t8.2.2.1), (6, .int t15)]) [0, 1, 2, 4, 5] rfl ?_
            exact hE15 t15
          · refine zs_iload_n (pc := 32) 1 dX0_laysRow_32 rfl rfl ?_
            refine zs_aload_n (pc := 33) 0 dX0_laysRow_33 rfl rfl ?_
            refine cs_getr (pc := 34) 0 0 16 (v := .ref (c + 147)) ⟨⟨by decide, by decide⟩, rfl⟩ zc_X0 ⟨rfl, rfl⟩ (by decide) rfl rfl q545 dX0_laysRow_34 ?_
            refine zs_iload_n (pc := 37) 2 dX0_laysRow_37 rfl rfl ?_
            refine cs_iald (pc := 38) 147 0 16 ⟨⟨by decide, by decide⟩, rfl, rfl, rfl⟩ dX0_laysRow_38 (fun x4 => ?_)
            refine zs_iadd (pc := 39) dX0_laysRow_39 ?_
            refine zs_aload_n (pc := 40) 0 dX0_laysRow_40 rfl rfl ?_
            refine cs_getr (pc := 41) 0 0 15 (v := .ref (c + 140)) ⟨⟨by decide, by decide⟩, rfl⟩ zc_X0 ⟨rfl, rfl⟩ (by decide) rfl rfl q544 dX0_laysRow_41 ?_
            refine zs_iload (pc := 44) 3 dX0_laysRow_44 rfl ?_
            refine cs_join (pc := 46) dX0_laysRow_46 (fun k5 hk5 => ?_)
            refine zs_iload (pc := 47) 5 dX0_laysRow_47 rfl ?_
            refine cs_iald (pc := 49) (141 + k5) 61 k5 (cs_pjoin hk5) dX0_laysRow_49 (fun x6 => ?_)
            refine zs_icmp_le (pc := 50) (tgt := 59) dX0_laysRow_50 (by decide) ?_ ?_
            · exact h53 ()
            · refine zs_sub (lv' := [(0, .ref (c + 0)), (2, .int a2), (3, .int t8.1), (5, .int t8.2.2.1), (6, .int t15)]) [0, 1, 2, 4, 5] rfl ?_
              exact hE15 t15
