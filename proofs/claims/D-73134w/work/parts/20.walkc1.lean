/-! THE COMPONENT's methods, walked: what each computes (gv_ of a village, gh_), that its code computes it (kv_x.., kh_). Printed by wip/D-73134w/gen/comp.py -/
set_option maxRecDepth 100000
theorem cs_rcv0 {W : cs_W} {P : Nat → Bool} {h0 : zs_AH} {c : Nat} {M : cs_S} : ∀ h, cs_R W P h0 c M h → ∃ k f, h.2.2 (c + 0) = some (0, k, f) := fun h hR => ⟨_, _, cs_cellO (o := 0) ⟨⟨by decide, by decide⟩, rfl⟩ hR⟩
theorem cs_rcvv {W : cs_W} {P : Nat → Bool} {h0 : zs_AH} {c : Nat} {M : cs_S} {i : Nat} (hi : i < 45) : ∀ h, cs_R W P h0 c M h → ∃ k f, h.2.2 (c + cs_va i) = some (5, k, f) := fun h hR => by
  have e := cs_cellO (cs_pv hi) hR
  rw [(cs_vcl hi).1] at e
  exact ⟨_, _, e⟩
theorem wh_typed : zs_mV RX0 yX0_typed cX0_typed 3 none 1 := ⟨q618, qs1, q134, q619, by decide, by decide +kernel⟩
def gh_typed_L3 (a1 : Int32) : (Int32 × cs_S) → Option ((Int32 × cs_S) ⊕ (cs_S)) := fun t3 =>
if t3.1 < 0 then (some (Sum.inr t3.2))
else ((zs_ast 2000 (t3.2.1 2 2) (cs_sA t3.2 2 1 (t3.2.1 2 2) (vp_nar .byte (zs_i8 (zs_shr a1 t3.1))))).bind fun M1 =>
(some (cs_sF M1 2 2 ((M1.1 2 2) + 1))).bind fun M2 =>
some (Sum.inl ((t3.1 + (-8)), M2)))
def gh_typed (T : zt_T) (M : cs_S) (a1 : Int32) : Option (cs_S) :=
(zs_loop 5000 (gh_typed_L3 a1) (24, M)).bind fun z => some z
set_option maxHeartbeats 4000000 in
theorem kh_typed (D : zs_D) (W : cs_W) (P : Nat → Bool) (h0 : zs_AH) (c : Nat) (M : cs_S) (a1 : Int32) : zs_Con D (cs_R W P h0 c) cs_bd zs_eV yX0_typed cX0_typed 3 none 0 [.ref (c + 0), .int a1] M ((gh_typed W.2.1 M a1).map fun x => ((), x)) := by
  unfold gh_typed
  refine zs_conV (own := RX0) (nm := "typed") pl_X0 rfl rfl (Nat.le_of_ble_eq_true rfl) ?_
  refine zs_lv (lv' := [(0, .ref (c + 0)), (1, .int a1)]) rfl ?_
  refine zs_bipush (pc := 0) (v := 24) dX0_typed_0 (by decide) ?_
  refine zs_istore_n (pc := 2) (lv' := [(0, .ref (c + 0)), (1, .int a1), (2, .int 24)]) [1, 2, 0] dX0_typed_2 rfl (by decide) rfl ?_
  refine zs_whileX (pc := 3) (fun (t3 : Int32 × cs_S) => t3.2) (fun (t3 : Int32 × cs_S) => [(0, .ref (c + 0)), (1, .int a1), (2, .int t3.1)]) 5000 (24, M) (fun X3 hL3 hR3 t3 => ?_)
  unfold gh_typed_L3
  refine zs_iload_n (pc := 3) 2 dX0_typed_3 rfl rfl ?_
  refine zs_if_lt (pc := 4) (tgt := 45) dX0_typed_4 (by decide) ?_ ?_
  · exact zs_vret (pc := 45) dX0_typed_45 ((hR3 _).trans rfl) rfl
  · refine zs_aload_n (pc := 7) 0 dX0_typed_7 rfl rfl ?_
    refine cs_getr (pc := 8) 0 0 1 (v := .ref (c + 2)) ⟨⟨by decide, by decide⟩, rfl⟩ zc_X0 ⟨rfl, rfl⟩ (by decide) rfl rfl q530 dX0_typed_8 ?_
    refine cs_getr (pc := 11) 2 2 1 (v := .ref (c + 4)) ⟨⟨by decide, by decide⟩, rfl⟩ zc_X2 ⟨rfl, rfl⟩ (by decide) rfl rfl q283 dX0_typed_11 ?_
    refine zs_aload_n (pc := 14) 0 dX0_typed_14 rfl rfl ?_
    refine cs_getr (pc := 15) 0 0 1 (v := .ref (c + 2)) ⟨⟨by decide, by decide⟩, rfl⟩ zc_X0 ⟨rfl, rfl⟩ (by decide) rfl rfl q530 dX0_typed_15 ?_
    refine cs_geti (pc := 18) 2 2 2 ⟨⟨by decide, by decide⟩, rfl⟩ zc_X2 ⟨rfl, rfl⟩ (by decide) rfl q285 dX0_typed_18 ?_
    refine zs_iload_n (pc := 21) 1 dX0_typed_21 rfl rfl ?_
    refine zs_iload_n (pc := 22) 2 dX0_typed_22 rfl rfl ?_
    refine zs_ishr (pc := 23) dX0_typed_23 ?_
    refine zs_i2b (pc := 24) dX0_typed_24 ?_
    refine cs_bast (pc := 25) 4 2 1 ⟨⟨by decide, by decide⟩, rfl, rfl, rfl⟩ dX0_typed_25 (fun M1 => ?_)
    refine zs_aload_n (pc := 26) 0 dX0_typed_26 rfl rfl ?_
    refine cs_getr (pc := 27) 0 0 1 (v := .ref (c + 2)) ⟨⟨by decide, by decide⟩, rfl⟩ zc_X0 ⟨rfl, rfl⟩ (by decide) rfl rfl q530 dX0_typed_27 ?_
    refine zs_dup (pc := 30) dX0_typed_30 rfl ?_
    refine cs_geti (pc := 31) 2 2 2 ⟨⟨by decide, by decide⟩, rfl⟩ zc_X2 ⟨rfl, rfl⟩ (by decide) rfl q285 dX0_typed_31 ?_
    refine zs_iconst (pc := 34) (v := 1) dX0_typed_34 rfl ?_
    refine zs_iadd (pc := 35) dX0_typed_35 ?_
    refine cs_puti (pc := 36) 2 2 2 ⟨⟨by decide, by decide⟩, rfl⟩ zc_X2 ⟨rfl, rfl⟩ (by decide) rfl q285 rfl rfl rfl dX0_typed_36 (fun M2 => ?_)
    refine zs_iinc (pc := 39) (lv' := [(0, .ref (c + 0)), (1, .int a1), (2, .int (t3.1 + (-8)))]) 2 [1, 2, 0] dX0_typed_39 rfl rfl (by decide) rfl ?_
    refine zs_goto (pc := 42) (tgt := 3) dX0_typed_42 (by decide) ?_
    exact hL3 ((t3.1 + (-8)), M2)
theorem wh_feed : zs_mV RX0 yX0_feed cX0_feed 6 (some .int) 5 := ⟨q613, q614, q134, q615, by decide, by decide +kernel⟩
def gh_feed (T : zt_T) (M : cs_S) (a1 : Int32) (a2 : Int32) (a3 : Int32) (a4 : Int32) (a5 : Int32) : Option (Int32 × cs_S) :=
if 2000 < ((M.1 2 2) + 20) then (some ((-1), M))
else ((gh_typed T M a1).bind fun M1 =>
(gh_typed T M1 a2).bind fun M2 =>
(gh_typed T M2 a3).bind fun M3 =>
(gh_typed T M3 a4).bind fun M4 =>
(gh_typed T M4 a5).bind fun M5 =>
some ((M5.1 2 2), M5))
set_option maxHeartbeats 4000000 in
theorem kh_feed (D : zs_D) (W : cs_W) (P : Nat → Bool) (h0 : zs_AH) (c : Nat) (M : cs_S) (a1 : Int32) (a2 : Int32) (a3 : Int32) (a4 : Int32) (a5 : Int32) : zs_Con D (cs_R W P h0 c) cs_bd zs_eI yX0_feed cX0_feed 6 (some .int) 1 [.ref (c + 0), .int a1, .int a2, .int a3, .int a4, .int a5] M (gh_feed W.2.1 M a1 a2 a3 a4 a5) := by
  unfold gh_feed
  refine zs_con (own := RX0) (nm := "feed") pl_X0 rfl rfl (Nat.le_of_ble_eq_true rfl) ?_
  refine zs_lv (lv' := [(0, .ref (c + 0)), (1, .int a1), (2, .int a2), (3, .int a3), (4, .int a4), (5, .int a5)]) rfl ?_
  refine zs_aload_n (pc := 0) 0 dX0_feed_0 rfl rfl ?_
  refine cs_getr (pc := 1) 0 0 1 (v := .ref (c + 2)) ⟨⟨by decide, by decide⟩, rfl⟩ zc_X0 ⟨rfl, rfl⟩ (by decide) rfl rfl q530 dX0_feed_1 ?_
  refine cs_geti (pc := 4) 2 2 2 ⟨⟨by decide, by decide⟩, rfl⟩ zc_X2 ⟨rfl, rfl⟩ (by decide) rfl q285 dX0_feed_4 ?_
  refine zs_bipush (pc := 7) (v := 20) dX0_feed_7 (by decide) ?_
  refine zs_iadd (pc := 9) dX0_feed_9 ?_
  refine zs_sipush (pc := 10) (v := 2000) dX0_feed_10 (by decide) ?_
  refine zs_icmp_le (pc := 13) (tgt := 18) dX0_feed_13 (by decide) ?_ ?_
  · refine zs_iconst (pc := 16) (v := (-1)) dX0_feed_16 rfl ?_
    exact zs_iret (pc := 17) dX0_feed_17 rfl rfl rfl
  · refine zs_aload_n (pc := 18) 0 dX0_feed_18 rfl rfl ?_
    refine zs_iload_n (pc := 19) 1 dX0_feed_19 rfl rfl ?_
    refine zs_callVv (pc := 20) [.int a1] [] (kh_typed D W P h0 c M a1) wh_typed q616 zc_X0 cs_rcv0 dX0_feed_20 rfl rfl (Nat.le_of_ble_eq_true rfl) (Nat.le_of_ble_eq_true rfl) (fun M1 => ?_)
    refine zs_aload_n (pc := 23) 0 dX0_feed_23 rfl rfl ?_
    refine zs_iload_n (pc := 24) 2 dX0_feed_24 rfl rfl ?_
    refine zs_callVv (pc := 25) [.int a2] [] (kh_typed D W P h0 c M1 a2) wh_typed q616 zc_X0 cs_rcv0 dX0_feed_25 rfl rfl (Nat.le_of_ble_eq_true rfl) (Nat.le_of_ble_eq_true rfl) (fun M2 => ?_)
    refine zs_aload_n (pc := 28) 0 dX0_feed_28 rfl rfl ?_
    refine zs_iload_n (pc := 29) 3 dX0_feed_29 rfl rfl ?_
    refine zs_callVv (pc := 30) [.int a3] [] (kh_typed D W P h0 c M2 a3) wh_typed q616 zc_X0 cs_rcv0 dX0_feed_30 rfl rfl (Nat.le_of_ble_eq_true rfl) (Nat.le_of_ble_eq_true rfl) (fun M3 => ?_)
    refine zs_aload_n (pc := 33) 0 dX0_feed_33 rfl rfl ?_
    refine zs_iload (pc := 34) 4 dX0_feed_34 rfl ?_
    refine zs_callVv (pc := 36) [.int a4] [] (kh_typed D W P h0 c M3 a4) wh_typed q616 zc_X0 cs_rcv0 dX0_feed_36 rfl rfl (Nat.le_of_ble_eq_true rfl) (Nat.le_of_ble_eq_true rfl) (fun M4 => ?_)
    refine zs_aload_n (pc := 39) 0 dX0_feed_39 rfl rfl ?_
    refine zs_iload (pc := 40) 5 dX0_feed_40 rfl ?_
    refine zs_callVv (pc := 42) [.int a5] [] (kh_typed D W P h0 c M4 a5) wh_typed q616 zc_X0 cs_rcv0 dX0_feed_42 rfl rfl (Nat.le_of_ble_eq_true rfl) (Nat.le_of_ble_eq_true rfl) (fun M5 => ?_)
    refine zs_aload_n (pc := 45) 0 dX0_feed_45 rfl rfl ?_
    refine cs_getr (pc := 46) 0 0 1 (v := .ref (c + 2)) ⟨⟨by decide, by decide⟩, rfl⟩ zc_X0 ⟨rfl, rfl⟩ (by decide) rfl rfl q530 dX0_feed_46 ?_
    refine cs_geti (pc := 49) 2 2 2 ⟨⟨by decide, by decide⟩, rfl⟩ zc_X2 ⟨rfl, rfl⟩ (by decide) rfl q285 dX0_feed_49 ?_
    exact zs_iret (pc := 52) dX0_feed_52 rfl rfl rfl
theorem wh_back : zs_mV RX0 yX0_back cX0_back 2 (some .int) 1 := ⟨q621, q622, q134, q623, by decide, by decide +kernel⟩
def gh_back (T : zt_T) (M : cs_S) (a1 : Int32) : Option (Int32 × cs_S) :=
if a1 < 0 then (some ((-1), M))
else (if (M.1 2 2) < a1 then (some ((-1), M))
else ((some (cs_sF M 2 2 ((M.1 2 2) - a1))).bind fun M1 =>
some ((M1.1 2 2), M1)))
set_option maxHeartbeats 4000000 in
theorem kh_back (D : zs_D) (W : cs_W) (P : Nat → Bool) (h0 : zs_AH) (c : Nat) (M : cs_S) (a1 : Int32) : zs_Con D (cs_R W P h0 c) cs_bd zs_eI yX0_back cX0_back 2 (some .int) 0 [.ref (c + 0), .int a1] M (gh_back W.2.1 M a1) := by
  unfold gh_back
  refine zs_con (own := RX0) (nm := "back") pl_X0 rfl rfl (Nat.le_of_ble_eq_true rfl) ?_
  refine zs_lv (lv' := [(0, .ref (c + 0)), (1, .int a1)]) rfl ?_
  refine zs_iload_n (pc := 0) 1 dX0_back_0 rfl rfl ?_
  refine zs_if_lt (pc := 1) (tgt := 15) dX0_back_1 (by decide) ?_ ?_
  · refine zs_iconst (pc := 15) (v := (-1)) dX0_back_15 rfl ?_
    exact zs_iret (pc := 16) dX0_back_16 rfl rfl rfl
  · refine zs_iload_n (pc := 4) 1 dX0_back_4 rfl rfl ?_
    refine zs_aload_n (pc := 5) 0 dX0_back_5 rfl rfl ?_
    refine cs_getr (pc := 6) 0 0 1 (v := .ref (c + 2)) ⟨⟨by decide, by decide⟩, rfl⟩ zc_X0 ⟨rfl, rfl⟩ (by decide) rfl rfl q530 dX0_back_6 ?_
    refine cs_geti (pc := 9) 2 2 2 ⟨⟨by decide, by decide⟩, rfl⟩ zc_X2 ⟨rfl, rfl⟩ (by decide) rfl q285 dX0_back_9 ?_
    refine zs_icmp_le (pc := 12) (tgt := 17) dX0_back_12 (by decide) ?_ ?_
    · refine zs_iconst (pc := 15) (v := (-1)) dX0_back_15 rfl ?_
      exact zs_iret (pc := 16) dX0_back_16 rfl rfl rfl
    · refine zs_aload_n (pc := 17) 0 dX0_back_17 rfl rfl ?_
      refine cs_getr (pc := 18) 0 0 1 (v := .ref (c + 2)) ⟨⟨by decide, by decide⟩, rfl⟩ zc_X0 ⟨rfl, rfl⟩ (by decide) rfl rfl q530 dX0_back_18 ?_
      refine zs_dup (pc := 21) dX0_back_21 rfl ?_
      refine cs_geti (pc := 22) 2 2 2 ⟨⟨by decide, by decide⟩, rfl⟩ zc_X2 ⟨rfl, rfl⟩ (by decide) rfl q285 dX0_back_22 ?_
      refine zs_iload_n (pc := 25) 1 dX0_back_25 rfl rfl ?_
      refine zs_isub (pc := 26) dX0_back_26 ?_
      refine cs_puti (pc := 27) 2 2 2 ⟨⟨by decide, by decide⟩, rfl⟩ zc_X2 ⟨rfl, rfl⟩ (by decide) rfl q285 rfl rfl rfl dX0_back_27 (fun M1 => ?_)
      refine zs_aload_n (pc := 30) 0 dX0_back_30 rfl rfl ?_
      refine cs_getr (pc := 31) 0 0 1 (v := .ref (c + 2)) ⟨⟨by decide, by decide⟩, rfl⟩ zc_X0 ⟨rfl, rfl⟩ (by decide) rfl rfl q530 dX0_back_31 ?_
      refine cs_geti (pc := 34) 2 2 2 ⟨⟨by decide, by decide⟩, rfl⟩ zc_X2 ⟨rfl, rfl⟩ (by decide) rfl q285 dX0_back_34 ?_
      exact zs_iret (pc := 37) dX0_back_37 rfl rfl rfl
theorem wh_place : zs_mV RX0 yX0_place cX0_place 1 (some .int) 0 := ⟨q1113, q1114, q134, q1115, by decide, by decide +kernel⟩
def gh_place (T : zt_T) (M : cs_S) : Option (Int32) :=
some (M.1 0 4)
set_option maxHeartbeats 4000000 in
theorem kh_place (D : zs_D) (W : cs_W) (P : Nat → Bool) (h0 : zs_AH) (c : Nat) (M : cs_S) : zs_Con D (cs_R W P h0 c) cs_bd zs_eI yX0_place cX0_place 1 (some .int) 0 [.ref (c + 0)] M ((gh_place W.2.1 M).map fun x => (x, M)) := by
  unfold gh_place
  refine zs_conR (own := RX0) (nm := "place") pl_X0 rfl rfl (Nat.le_of_ble_eq_true rfl) ?_
  refine zs_lv (lv' := [(0, .ref (c + 0))]) rfl ?_
  refine zs_aload_n (pc := 0) 0 dX0_place_0 rfl rfl ?_
  refine cs_geti (pc := 1) 0 0 4 ⟨⟨by decide, by decide⟩, rfl⟩ zc_X0 ⟨rfl, rfl⟩ (by decide) rfl q533 dX0_place_1 ?_
  exact zs_iret (pc := 4) dX0_place_4 rfl rfl rfl
theorem wh_houses : zs_mV RX0 yX0_houses cX0_houses 1 (some .int) 0 := ⟨q1126, qs31, q134, q1127, by decide, by decide +kernel⟩
def gh_houses (T : zt_T) (M : cs_S) : Option (Int32) :=
some (nI (zt_n T))
set_option maxHeartbeats 4000000 in
theorem kh_houses (D : zs_D) (W : cs_W) (P : Nat → Bool) (h0 : zs_AH) (c : Nat) (M : cs_S) : zs_Con D (cs_R W P h0 c) cs_bd zs_eI yX0_houses cX0_houses 1 (some .int) 1 [.ref (c + 0)] M ((gh_houses W.2.1 M).map fun x => (x, M)) := by
  unfold gh_houses
  refine zs_conR (own := RX0) (nm := "houses") pl_X0 rfl rfl (Nat.le_of_ble_eq_true rfl) ?_
  refine zs_lv (lv' := [(0, .ref (c + 0))]) rfl ?_
  refine zs_aload_n (pc := 0) 0 dX0_houses_0 rfl rfl ?_
  refine cs_getr (pc := 1) 0 0 3 (v := .ref (zt_ad W.2.1 0)) ⟨⟨by decide, by decide⟩, rfl⟩ zc_X0 ⟨rfl, rfl⟩ (by decide) rfl rfl q532 dX0_houses_1 ?_
  refine ct_houses (pc := 4) q378 dX0_houses_4 ?_
  refine ct_size (pc := 7) q1128 dX0_houses_7 (Nat.le_of_ble_eq_true rfl) (Nat.le_of_ble_eq_true rfl) ?_
  exact zs_iret (pc := 10) dX0_houses_10 rfl rfl rfl
theorem wh_isIn : zs_mS yX0_isIn cX0_isIn 3 (some .boolean) 3 := ⟨q1130, q134, q1131, by decide, by decide +kernel⟩
def gh_isIn (a0 : Int32) (a1 : Int32) (a2 : Int32) : Option (Bool) :=
zs_let (fun (p1 : Unit) => some false) fun J14 =>
if a0 < a1 then (J14 ())
else (if a2 < a0 then (J14 ())
else (some true))
set_option maxHeartbeats 4000000 in
theorem kh_isIn {σ : Type} (D : zs_D) (Rl : σ → zs_AH → Prop) (bd : σ → Nat × Nat) (M : σ) (a0 : Int32) (a1 : Int32) (a2 : Int32) : zs_Con D Rl bd zs_eB yX0_isIn cX0_isIn 3 (some .boolean) 0 [.int a0, .int a1, .int a2] M ((gh_isIn a0 a1 a2).map fun x => (x, M)) := by
  unfold gh_isIn
  refine zs_conR (own := RX0) (nm := "isIn") pl_X0 rfl rfl (Nat.le_of_ble_eq_true rfl) ?_
  refine zs_lv (lv' := [(0, .int a0), (1, .int a1), (2, .int a2)]) rfl ?_
  refine zs_iload_n (pc := 0) 0 dX0_isIn_0 rfl rfl ?_
  refine zs_iload_n (pc := 1) 1 dX0_isIn_1 rfl rfl ?_
  refine zs_letJ (pc := 2) (fun (p1 : Unit) => M) 14 (fun (p1 : Unit) => []) (fun (p1 : Unit) => []) (fun p1 => ?_) (fun J14 h14 => ?_)
  · refine zs_iconst (pc := 14) (v := 0) dX0_isIn_14 rfl ?_
    exact zs_iret (pc := 15) dX0_isIn_15 rfl rfl rfl
  · refine zs_icmp_lt (pc := 2) (tgt := 14) dX0_isIn_2 (by decide) ?_ ?_
    · refine zs_sub (lv' := []) [] rfl ?_
      exact h14 ()
    · refine zs_iload_n (pc := 5) 0 dX0_isIn_5 rfl rfl ?_
      refine zs_iload_n (pc := 6) 2 dX0_isIn_6 rfl rfl ?_
      refine zs_icmp_gt (pc := 7) (tgt := 14) dX0_isIn_7 (by decide) ?_ ?_
      · refine zs_sub (lv' := []) [] rfl ?_
        exact h14 ()
      · refine zs_iconst (pc := 10) (v := 1) dX0_isIn_10 rfl ?_
        refine zs_goto (pc := 11) (tgt := 15) dX0_isIn_11 (by decide) ?_
        exact zs_iret (pc := 15) dX0_isIn_15 rfl rfl rfl
theorem wh_isHouse : zs_mV RX0 yX0_isHouse cX0_isHouse 2 (some .boolean) 1 := ⟨q1122, qs30, q134, q1123, by decide, by decide +kernel⟩
def gh_isHouse (T : zt_T) (M : cs_S) (a1 : Int32) : Option (Bool) :=
(gh_houses T M).bind fun x1 =>
(gh_isIn a1 0 (x1 - 1)).bind fun b2 =>
some b2
set_option maxHeartbeats 4000000 in
theorem kh_isHouse (D : zs_D) (W : cs_W) (P : Nat → Bool) (h0 : zs_AH) (c : Nat) (M : cs_S) (a1 : Int32) : zs_Con D (cs_R W P h0 c) cs_bd zs_eB yX0_isHouse cX0_isHouse 2 (some .boolean) 2 [.ref (c + 0), .int a1] M ((gh_isHouse W.2.1 M a1).map fun x => (x, M)) := by
  unfold gh_isHouse
  refine zs_conR (own := RX0) (nm := "isHouse") pl_X0 rfl rfl (Nat.le_of_ble_eq_true rfl) ?_
  refine zs_lv (lv' := [(0, .ref (c + 0)), (1, .int a1)]) rfl ?_
  refine zs_iload_n (pc := 0) 1 dX0_isHouse_0 rfl rfl ?_
  refine zs_iconst (pc := 1) (v := 0) dX0_isHouse_1 rfl ?_
  refine zs_aload_n (pc := 2) 0 dX0_isHouse_2 rfl rfl ?_
  refine zs_callVrI (pc := 3) [] [.int 0, .int a1] (kh_houses D W P h0 c M) wh_houses q1124 zc_X0 cs_rcv0 dX0_isHouse_3 rfl rfl (Nat.le_of_ble_eq_true rfl) (Nat.le_of_ble_eq_true rfl) (fun x1 => ?_)
  refine zs_iconst (pc := 6) (v := 1) dX0_isHouse_6 rfl ?_
  refine zs_isub (pc := 7) dX0_isHouse_7 ?_
  refine zs_callSrB (pc := 8) [.int a1, .int 0, .int (x1 - 1)] [] (kh_isIn D _ _ M a1 0 (x1 - 1)) wh_isIn q1129 dX0_isHouse_8 rfl rfl (Nat.le_of_ble_eq_true rfl) (Nat.le_of_ble_eq_true rfl) (fun b2 => ?_)
  exact zs_iret (pc := 11) dX0_isHouse_11 rfl rfl (zs_nb _)
theorem wv_placeOf : zs_mV RX5 yX5_placeOf cX5_placeOf 3 (some .int) 1 := ⟨q1135, q1136, q145, q1137, by decide, by decide +kernel⟩
def gv_placeOf_L2 (M : cs_S) (i : Nat) (a1 : Int32) : (Int32) → Option ((Int32) ⊕ (Int32)) := fun t2 =>
if t2 < (M.1 (10 + i) 5) then ((zs_ald 6 (M.2 (10 + i) 4) t2).bind fun x1 =>
if x1 = a1 then (some (Sum.inr t2))
else (some (Sum.inl (t2 + 1))))
else (some (Sum.inr (-2)))
def gv_placeOf (T : zt_T) (M : cs_S) (i : Nat) (a1 : Int32) : Option (Int32) :=
(zs_loop 5000 (gv_placeOf_L2 M i a1) 0).bind fun z => some z
set_option maxHeartbeats 4000000 in
theorem kv_xplaceOf (D : zs_D) (W : cs_W) (P : Nat → Bool) (h0 : zs_AH) (c : Nat) (M : cs_S) (i : Nat) (hi : i < 45) (a1 : Int32) : zs_Con D (cs_R W P h0 c) cs_bd zs_eI yX5_placeOf cX5_placeOf 3 (some .int) 0 [.ref (c + cs_va i), .int a1] M ((gv_placeOf W.2.1 M i a1).map fun x => (x, M)) := by
  unfold gv_placeOf
  refine zs_conR (own := RX5) (nm := "placeOf") pl_X5 rfl rfl (Nat.le_of_ble_eq_true rfl) ?_
  refine zs_lv (lv' := [(0, .ref (c + cs_va i)), (1, .int a1)]) rfl ?_
  refine zs_iconst (pc := 0) (v := 0) dX5_placeOf_0 rfl ?_
  refine zs_istore_n (pc := 1) (lv' := [(0, .ref (c + cs_va i)), (1, .int a1), (2, .int 0)]) [1, 2, 0] dX5_placeOf_1 rfl (by decide) rfl ?_
  refine zs_whileX (pc := 2) (fun (t2 : Int32) => M) (fun (t2 : Int32) => [(0, .ref (c + cs_va i)), (1, .int a1), (2, .int t2)]) 5000 0 (fun X2 hL2 hR2 t2 => ?_)
  unfold gv_placeOf_L2
  refine zs_iload_n (pc := 2) 2 dX5_placeOf_2 rfl rfl ?_
  refine zs_aload_n (pc := 3) 0 dX5_placeOf_3 rfl rfl ?_
  refine cs_geti (pc := 4) (cs_va i) (10 + i) 5 (cs_pv (by omega)) zc_X5 (cs_vcl (by omega)) (by decide) (cs_vsc (by omega) 5 true (by decide)) q449 dX5_placeOf_4 ?_
  refine zs_icmp_ge (pc := 7) (tgt := 28) dX5_placeOf_7 (by decide) ?_ ?_
  · refine zs_aload_n (pc := 10) 0 dX5_placeOf_10 rfl rfl ?_
    refine cs_getr (pc := 11) (cs_va i) (10 + i) 4 (v := .ref (c + (cs_va i + 5))) (cs_pv (by omega)) zc_X5 (cs_vcl (by omega)) (by decide) (cs_vsc (by omega) 4 false (by decide)) (cs_vcv (by omega) 4 5 (by decide)) q447 dX5_placeOf_11 ?_
    refine zs_iload_n (pc := 14) 2 dX5_placeOf_14 rfl rfl ?_
    refine cs_iald (pc := 15) (cs_va i + 5) (10 + i) 4 (cs_pva (by omega) 5 (by decide) 6 rfl) dX5_placeOf_15 (fun x1 => ?_)
    refine zs_iload_n (pc := 16) 1 dX5_placeOf_16 rfl rfl ?_
    refine zs_icmp_ne (pc := 17) (tgt := 22) dX5_placeOf_17 (by decide) ?_ ?_
    · refine zs_iload_n (pc := 20) 2 dX5_placeOf_20 rfl rfl ?_
      exact zs_iret (pc := 21) dX5_placeOf_21 ((hR2 _).trans rfl) rfl rfl
    · refine zs_iinc (pc := 22) (lv' := [(0, .ref (c + cs_va i)), (1, .int a1), (2, .int (t2 + 1))]) 2 [1, 2, 0] dX5_placeOf_22 rfl rfl (by decide) rfl ?_
      refine zs_goto (pc := 25) (tgt := 2) dX5_placeOf_25 (by decide) ?_
      exact hL2 (t2 + 1)
  · refine zs_bipush (pc := 28) (v := (-2)) dX5_placeOf_28 (by decide) ?_
    exact zs_iret (pc := 30) dX5_placeOf_30 ((hR2 _).trans rfl) rfl rfl
theorem wv_has : zs_mV RX5 yX5_has cX5_has 2 (some .boolean) 1 := ⟨q1151, q1152, q145, q1153, by decide, by decide +kernel⟩
def gv_has (T : zt_T) (M : cs_S) (i : Nat) (a1 : Int32) : Option (Bool) :=
(zs_ald 6 (M.2 (10 + i) 1) a1).bind fun x1 =>
if 0 < x1 then (some true)
else (some false)
set_option maxHeartbeats 4000000 in
theorem kv_xhas (D : zs_D) (W : cs_W) (P : Nat → Bool) (h0 : zs_AH) (c : Nat) (M : cs_S) (i : Nat) (hi : i < 45) (a1 : Int32) : zs_Con D (cs_R W P h0 c) cs_bd zs_eB yX5_has cX5_has 2 (some .boolean) 0 [.ref (c + cs_va i), .int a1] M ((gv_has W.2.1 M i a1).map fun x => (x, M)) := by
  unfold gv_has
  refine zs_conR (own := RX5) (nm := "has") pl_X5 rfl rfl (Nat.le_of_ble_eq_true rfl) ?_
  refine zs_lv (lv' := [(0, .ref (c + cs_va i)), (1, .int a1)]) rfl ?_
  refine zs_aload_n (pc := 0) 0 dX5_has_0 rfl rfl ?_
  refine cs_getr (pc := 1) (cs_va i) (10 + i) 1 (v := .ref (c + (cs_va i + 2))) (cs_pv (by omega)) zc_X5 (cs_vcl (by omega)) (by decide) (cs_vsc (by omega) 1 false (by decide)) (cs_vcv (by omega) 1 2 (by decide)) q441 dX5_has_1 ?_
  refine zs_iload_n (pc := 4) 1 dX5_has_4 rfl rfl ?_
  refine cs_iald (pc := 5) (cs_va i + 2) (10 + i) 1 (cs_pva (by omega) 2 (by decide) 6 rfl) dX5_has_5 (fun x1 => ?_)
  refine zs_if_le (pc := 6) (tgt := 13) dX5_has_6 (by decide) ?_ ?_
  · refine zs_iconst (pc := 9) (v := 1) dX5_has_9 rfl ?_
    refine zs_goto (pc := 10) (tgt := 14) dX5_has_10 (by decide) ?_
    exact zs_iret (pc := 14) dX5_has_14 rfl rfl rfl
  · refine zs_iconst (pc := 13) (v := 0) dX5_has_13 rfl ?_
    exact zs_iret (pc := 14) dX5_has_14 rfl rfl rfl
theorem wv_strength : zs_mV RX5 yX5_strength cX5_strength 3 (some .int) 2 := ⟨q1147, q1148, q145, q1149, by decide, by decide +kernel⟩
def gv_strength (T : zt_T) (M : cs_S) (i : Nat) (a2 : Int32) : Option (Int32) :=
(gv_has T M i a2).bind fun b1 =>
if b1 = true then ((zs_ald 6 (M.2 (10 + i) 2) a2).bind fun x3 =>
some x3)
else ((zs_ix (zt_n T) a2).bind fun k2 =>
some (zt_hi T k2 2))
set_option maxHeartbeats 4000000 in
theorem kv_xstrength (D : zs_D) (W : cs_W) (P : Nat → Bool) (h0 : zs_AH) (c : Nat) (M : cs_S) (i : Nat) (hi : i < 45) (a2 : Int32) : zs_Con D (cs_R W P h0 c) cs_bd zs_eI yX5_strength cX5_strength 3 (some .int) 4 [.ref (c + cs_va i), .ref (zt_ad W.2.1 0), .int a2] M ((gv_strength W.2.1 M i a2).map fun x => (x, M)) := by
  unfold gv_strength
  refine zs_conR (own := RX5) (nm := "strength") pl_X5 rfl rfl (Nat.le_of_ble_eq_true rfl) ?_
  refine zs_lv (lv' := [(0, .ref (c + cs_va i)), (1, .ref (zt_ad W.2.1 0)), (2, .int a2)]) rfl ?_
  refine zs_aload_n (pc := 0) 0 dX5_strength_0 rfl rfl ?_
  refine zs_iload_n (pc := 1) 2 dX5_strength_1 rfl rfl ?_
  refine zs_callVrB (pc := 2) [.int a2] [] (kv_xhas D W P h0 c M i (by omega) a2) wv_has q1150 zc_X5 (cs_rcvv (by omega)) dX5_strength_2 rfl rfl (Nat.le_of_ble_eq_true rfl) (Nat.le_of_ble_eq_true rfl) (fun b1 => ?_)
  refine zs_if_f (pc := 5) (tgt := 17) dX5_strength_5 (by decide) ?_ ?_
  · refine zs_aload_n (pc := 8) 0 dX5_strength_8 rfl rfl ?_
    refine cs_getr (pc := 9) (cs_va i) (10 + i) 2 (v := .ref (c + (cs_va i + 3))) (cs_pv (by omega)) zc_X5 (cs_vcl (by omega)) (by decide) (cs_vsc (by omega) 2 false (by decide)) (cs_vcv (by omega) 2 3 (by decide)) q443 dX5_strength_9 ?_
    refine zs_iload_n (pc := 12) 2 dX5_strength_12 rfl rfl ?_
    refine cs_iald (pc := 13) (cs_va i + 3) (10 + i) 2 (cs_pva (by omega) 3 (by decide) 6 rfl) dX5_strength_13 (fun x3 => ?_)
    refine zs_goto (pc := 14) (tgt := 31) dX5_strength_14 (by decide) ?_
    exact zs_iret (pc := 31) dX5_strength_31 rfl rfl rfl
  · refine zs_aload_n (pc := 17) 1 dX5_strength_17 rfl rfl ?_
    refine ct_houses (pc := 18) q377 dX5_strength_18 ?_
    refine zs_iload_n (pc := 21) 2 dX5_strength_21 rfl rfl ?_
    refine ct_get (pc := 22) q514 dX5_strength_22 (Nat.le_of_ble_eq_true rfl) (Nat.le_of_ble_eq_true rfl) (fun k2 hk2 => ?_)
    refine ct_cast (pc := 25) hk2 q528 dX5_strength_25 ?_
    refine ct_strong (pc := 28) hk2 q1043 dX5_strength_28 ?_
    exact zs_iret (pc := 31) dX5_strength_31 rfl rfl rfl
theorem wv_told : zs_mV RX5 yX5_told cX5_told 6 (some .int) 5 := ⟨q1144, qs32, q145, q1145, by decide, by decide +kernel⟩
def gv_told (T : zt_T) (M : cs_S) (i : Nat) (a2 : Int32) (a3 : Int32) (a4 : Int32) (a5 : Int32) : Option (Int32 × cs_S) :=
(zs_ald 6 (M.2 (10 + i) 0) a3).bind fun x1 =>
(zs_ast 9 0 (cs_sA M (10 + i) 11 0 x1)).bind fun M2 =>
(gv_strength T M2 i a3).bind fun x3 =>
(zs_ast 9 1 (cs_sA M2 (10 + i) 11 1 x3)).bind fun M4 =>
(zs_ast 9 2 (cs_sA M4 (10 + i) 11 2 a4)).bind fun M5 =>
(zs_ast 9 3 (cs_sA M5 (10 + i) 11 3 (M5.1 (10 + i) 6))).bind fun M6 =>
(gv_placeOf T M6 i a3).bind fun x7 =>
(zs_ast 9 4 (cs_sA M6 (10 + i) 11 4 (zs_max 0 x7))).bind fun M8 =>
(zs_ast 9 5 (cs_sA M8 (10 + i) 11 5 a3)).bind fun M9 =>
(zs_ast 9 6 (cs_sA M9 (10 + i) 11 6 (M9.1 (10 + i) 5))).bind fun M10 =>
(zs_ald 6 (M10.2 (10 + i) 3) a3).bind fun x11 =>
(zs_ast 9 7 (cs_sA M10 (10 + i) 11 7 x11)).bind fun M12 =>
(zs_ast 9 8 (cs_sA M12 (10 + i) 11 8 a5)).bind fun M13 =>
(zs_ix 4 a2).bind fun k14 =>
(gl_of T i M13 k14).bind fun p15 =>
some (p15.1, p15.2)
set_option maxHeartbeats 4000000 in
theorem kv_xtold (D : zs_D) (W : cs_W) (P : Nat → Bool) (h0 : zs_AH) (c : Nat) (M : cs_S) (i : Nat) (hi : i < 45) (a2 : Int32) (a3 : Int32) (a4 : Int32) (a5 : Int32) : zs_Con D (cs_R W P h0 c) cs_bd zs_eI yX5_told cX5_told 6 (some .int) 422 [.ref (c + cs_va i), .ref (zt_ad W.2.1 0), .int a2, .int a3, .int a4, .int a5] M (gv_told W.2.1 M i a2 a3 a4 a5) := by
  unfold gv_told
  refine zs_con (own := RX5) (nm := "told") pl_X5 rfl rfl (Nat.le_of_ble_eq_true rfl) ?_
  refine zs_lv (lv' := [(0, .ref (c + cs_va i)), (1, .ref (zt_ad W.2.1 0)), (2, .int a2), (3, .int a3), (4, .int a4), (5, .int a5)]) rfl ?_
  refine zs_aload_n (pc := 0) 0 dX5_told_0 rfl rfl ?_
  refine cs_getr (pc := 1) (cs_va i) (10 + i) 11 (v := .ref (c + (cs_va i + 8))) (cs_pv (by omega)) zc_X5 (cs_vcl (by omega)) (by decide) (cs_vsc (by omega) 11 false (by decide)) (cs_vcv (by omega) 11 8 (by decide)) q461 dX5_told_1 ?_
  refine cs_getr (pc := 4) (cs_va i + 8) (110 + i) 0 (v := .ref (c + (cs_va i + 9))) (cs_pq (by omega)) zc_X6 (cs_qcl (by omega)) (by decide) (cs_qsc (by omega) 0 false (by decide)) (cs_qcv (by omega)) q431 dX5_told_4 ?_
  refine zs_iconst (pc := 7) (v := 0) dX5_told_7 rfl ?_
  refine zs_aload_n (pc := 8) 0 dX5_told_8 rfl rfl ?_
  refine cs_getr (pc := 9) (cs_va i) (10 + i) 0 (v := .ref (c + (cs_va i + 1))) (cs_pv (by omega)) zc_X5 (cs_vcl (by omega)) (by decide) (cs_vsc (by omega) 0 false (by decide)) (cs_vcv (by omega) 0 1 (by decide)) q439 dX5_told_9 ?_
  refine zs_iload_n (pc := 12) 3 dX5_told_12 rfl rfl ?_
  refine cs_iald (pc := 13) (cs_va i + 1) (10 + i) 0 (cs_pva (by omega) 1 (by decide) 6 rfl) dX5_told_13 (fun x1 => ?_)
  refine cs_iast (pc := 14) (cs_va i + 9) (10 + i) 11 (cs_pva (by omega) 9 (by decide) 9 rfl) dX5_told_14 (fun M2 => ?_)
  refine zs_aload_n (pc := 15) 0 dX5_told_15 rfl rfl ?_
  refine cs_getr (pc := 16) (cs_va i) (10 + i) 11 (v := .ref (c + (cs_va i + 8))) (cs_pv (by omega)) zc_X5 (cs_vcl (by omega)) (by decide) (cs_vsc (by omega) 11 false (by decide)) (cs_vcv (by omega) 11 8 (by decide)) q461 dX5_told_16 ?_
  refine cs_getr (pc := 19) (cs_va i + 8) (110 + i) 0 (v := .ref (c + (cs_va i + 9))) (cs_pq (by omega)) zc_X6 (cs_qcl (by omega)) (by decide) (cs_qsc (by omega) 0 false (by decide)) (cs_qcv (by omega)) q431 dX5_told_19 ?_
  refine zs_iconst (pc := 22) (v := 1) dX5_told_22 rfl ?_
  refine zs_aload_n (pc := 23) 0 dX5_told_23 rfl rfl ?_
  refine zs_aload_n (pc := 24) 1 dX5_told_24 rfl rfl ?_
  refine zs_iload_n (pc := 25) 3 dX5_told_25 rfl rfl ?_
  refine zs_callVrI (pc := 26) [.ref (zt_ad W.2.1 0), .int a3] [.int 1, .ref (c + (cs_va i + 9))] (kv_xstrength D W P h0 c M2 i (by omega) a3) wv_strength q1146 zc_X5 (cs_rcvv (by omega)) dX5_told_26 rfl rfl (Nat.le_of_ble_eq_true rfl) (Nat.le_of_ble_eq_true rfl) (fun x3 => ?_)
  refine cs_iast (pc := 29) (cs_va i + 9) (10 + i) 11 (cs_pva (by omega) 9 (by decide) 9 rfl) dX5_told_29 (fun M4 => ?_)
  refine zs_aload_n (pc := 30) 0 dX5_told_30 rfl rfl ?_
  refine cs_getr (pc := 31) (cs_va i) (10 + i) 11 (v := .ref (c + (cs_va i + 8))) (cs_pv (by omega)) zc_X5 (cs_vcl (by omega)) (by decide) (cs_vsc (by omega) 11 false (by decide)) (cs_vcv (by omega) 11 8 (by decide)) q461 dX5_told_31 ?_
  refine cs_getr (pc := 34) (cs_va i + 8) (110 + i) 0 (v := .ref (c + (cs_va i + 9))) (cs_pq (by omega)) zc_X6 (cs_qcl (by omega)) (by decide) (cs_qsc (by omega) 0 false (by decide)) (cs_qcv (by omega)) q431 dX5_told_34 ?_
  refine zs_iconst (pc := 37) (v := 2) dX5_told_37 rfl ?_
  refine zs_iload (pc := 38) 4 dX5_told_38 rfl ?_
  refine cs_iast (pc := 40) (cs_va i + 9) (10 + i) 11 (cs_pva (by omega) 9 (by decide) 9 rfl) dX5_told_40 (fun M5 => ?_)
  refine zs_aload_n (pc := 41) 0 dX5_told_41 rfl rfl ?_
  refine cs_getr (pc := 42) (cs_va i) (10 + i) 11 (v := .ref (c + (cs_va i + 8))) (cs_pv (by omega)) zc_X5 (cs_vcl (by omega)) (by decide) (cs_vsc (by omega) 11 false (by decide)) (cs_vcv (by omega) 11 8 (by decide)) q461 dX5_told_42 ?_
  refine cs_getr (pc := 45) (cs_va i + 8) (110 + i) 0 (v := .ref (c + (cs_va i + 9))) (cs_pq (by omega)) zc_X6 (cs_qcl (by omega)) (by decide) (cs_qsc (by omega) 0 false (by decide)) (cs_qcv (by omega)) q431 dX5_told_45 ?_
  refine zs_iconst (pc := 48) (v := 3) dX5_told_48 rfl ?_
  refine zs_aload_n (pc := 49) 0 dX5_told_49 rfl rfl ?_
  refine cs_geti (pc := 50) (cs_va i) (10 + i) 6 (cs_pv (by omega)) zc_X5 (cs_vcl (by omega)) (by decide) (cs_vsc (by omega) 6 true (by decide)) q452 dX5_told_50 ?_
  refine cs_iast (pc := 53) (cs_va i + 9) (10 + i) 11 (cs_pva (by omega) 9 (by decide) 9 rfl) dX5_told_53 (fun M6 => ?_)
  refine zs_aload_n (pc := 54) 0 dX5_told_54 rfl rfl ?_
  refine cs_getr (pc := 55) (cs_va i) (10 + i) 11 (v := .ref (c + (cs_va i + 8))) (cs_pv (by omega)) zc_X5 (cs_vcl (by omega)) (by decide) (cs_vsc (by omega) 11 false (by decide)) (cs_vcv (by omega) 11 8 (by decide)) q461 dX5_told_55 ?_
  refine cs_getr (pc := 58) (cs_va i + 8) (110 + i) 0 (v := .ref (c + (cs_va i + 9))) (cs_pq (by omega)) zc_X6 (cs_qcl (by omega)) (by decide) (cs_qsc (by omega) 0 false (by decide)) (cs_qcv (by omega)) q431 dX5_told_58 ?_
  refine zs_iconst (pc := 61) (v := 4) dX5_told_61 rfl ?_
  refine zs_iconst (pc := 62) (v := 0) dX5_told_62 rfl ?_
  refine zs_aload_n (pc := 63) 0 dX5_told_63 rfl rfl ?_
  refine zs_iload_n (pc := 64) 3 dX5_told_64 rfl rfl ?_
  refine zs_callVrI (pc := 65) [.int a3] [.int 0, .int 4, .ref (c + (cs_va i + 9))] (kv_xplaceOf D W P h0 c M6 i (by omega) a3) wv_placeOf q1154 zc_X5 (cs_rcvv (by omega)) dX5_told_65 rfl rfl (Nat.le_of_ble_eq_true rfl) (Nat.le_of_ble_eq_true rfl) (fun x7 => ?_)
  refine zs_mmax (pc := 68) q1155 dX5_told_68 (Nat.le_of_ble_eq_true rfl) (Nat.le_of_ble_eq_true rfl) ?_
  refine cs_iast (pc := 71) (cs_va i + 9) (10 + i) 11 (cs_pva (by omega) 9 (by decide) 9 rfl) dX5_told_71 (fun M8 => ?_)
  refine zs_aload_n (pc := 72) 0 dX5_told_72 rfl rfl ?_
  refine cs_getr (pc := 73) (cs_va i) (10 + i) 11 (v := .ref (c + (cs_va i + 8))) (cs_pv (by omega)) zc_X5 (cs_vcl (by omega)) (by decide) (cs_vsc (by omega) 11 false (by decide)) (cs_vcv (by omega) 11 8 (by decide)) q461 dX5_told_73 ?_
  refine cs_getr (pc := 76) (cs_va i + 8) (110 + i) 0 (v := .ref (c + (cs_va i + 9))) (cs_pq (by omega)) zc_X6 (cs_qcl (by omega)) (by decide) (cs_qsc (by omega) 0 false (by decide)) (cs_qcv (by omega)) q431 dX5_told_76 ?_
  refine zs_iconst (pc := 79) (v := 5) dX5_told_79 rfl ?_
  refine zs_iload_n (pc := 80) 3 dX5_told_80 rfl rfl ?_
  refine cs_iast (pc := 81) (cs_va i + 9) (10 + i) 11 (cs_pva (by omega) 9 (by decide) 9 rfl) dX5_told_81 (fun M9 => ?_)
  refine zs_aload_n (pc := 82) 0 dX5_told_82 rfl rfl ?_
  refine cs_getr (pc := 83) (cs_va i) (10 + i) 11 (v := .ref (c + (cs_va i + 8))) (cs_pv (by omega)) zc_X5 (cs_vcl (by omega)) (by decide) (cs_vsc (by omega) 11 false (by decide)) (cs_vcv (by omega) 11 8 (by decide)) q461 dX5_told_83 ?_
  refine cs_getr (pc := 86) (cs_va i + 8) (110 + i) 0 (v := .ref (c + (cs_va i + 9))) (cs_pq (by omega)) zc_X6 (cs_qcl (by omega)) (by decide) (cs_qsc (by omega) 0 false (by decide)) (cs_qcv (by omega)) q431 dX5_told_86 ?_
  refine zs_bipush (pc := 89) (v := 6) dX5_told_89 (by decide) ?_
  refine zs_aload_n (pc := 91) 0 dX5_told_91 rfl rfl ?_
  refine cs_geti (pc := 92) (cs_va i) (10 + i) 5 (cs_pv (by omega)) zc_X5 (cs_vcl (by omega)) (by decide) (cs_vsc (by omega) 5 true (by decide)) q449 dX5_told_92 ?_
  refine cs_iast (pc := 95) (cs_va i + 9) (10 + i) 11 (cs_pva (by omega) 9 (by decide) 9 rfl) dX5_told_95 (fun M10 => ?_)
  refine zs_aload_n (pc := 96) 0 dX5_told_96 rfl rfl ?_
  refine cs_getr (pc := 97) (cs_va i) (10 + i) 11 (v := .ref (c + (cs_va i + 8))) (cs_pv (by omega)) zc_X5 (cs_vcl (by omega)) (by decide) (cs_vsc (by omega) 11 false (by decide)) (cs_vcv (by omega) 11 8 (by decide)) q461 dX5_told_97 ?_
  refine cs_getr (pc := 100) (cs_va i + 8) (110 + i) 0 (v := .ref (c + (cs_va i + 9))) (cs_pq (by omega)) zc_X6 (cs_qcl (by omega)) (by decide) (cs_qsc (by omega) 0 false (by decide)) (cs_qcv (by omega)) q431 dX5_told_100 ?_
  refine zs_bipush (pc := 103) (v := 7) dX5_told_103 (by decide) ?_
  refine zs_aload_n (pc := 105) 0 dX5_told_105 rfl rfl ?_
  refine cs_getr (pc := 106) (cs_va i) (10 + i) 3 (v := .ref (c + (cs_va i + 4))) (cs_pv (by omega)) zc_X5 (cs_vcl (by omega)) (by decide) (cs_vsc (by omega) 3 false (by decide)) (cs_vcv (by omega) 3 4 (by decide)) q445 dX5_told_106 ?_
  refine zs_iload_n (pc := 109) 3 dX5_told_109 rfl rfl ?_
  refine cs_iald (pc := 110) (cs_va i + 4) (10 + i) 3 (cs_pva (by omega) 4 (by decide) 6 rfl) dX5_told_110 (fun x11 => ?_)
  refine cs_iast (pc := 111) (cs_va i + 9) (10 + i) 11 (cs_pva (by omega) 9 (by decide) 9 rfl) dX5_told_111 (fun M12 => ?_)
  refine zs_aload_n (pc := 112) 0 dX5_told_112 rfl rfl ?_
  refine cs_getr (pc := 113) (cs_va i) (10 + i) 11 (v := .ref (c + (cs_va i + 8))) (cs_pv (by omega)) zc_X5 (cs_vcl (by omega)) (by decide) (cs_vsc (by omega) 11 false (by decide)) (cs_vcv (by omega) 11 8 (by decide)) q461 dX5_told_113 ?_
  refine cs_getr (pc := 116) (cs_va i + 8) (110 + i) 0 (v := .ref (c + (cs_va i + 9))) (cs_pq (by omega)) zc_X6 (cs_qcl (by omega)) (by decide) (cs_qsc (by omega) 0 false (by decide)) (cs_qcv (by omega)) q431 dX5_told_116 ?_
  refine zs_bipush (pc := 119) (v := 8) dX5_told_119 (by decide) ?_
  refine zs_iload (pc := 121) 5 dX5_told_121 rfl ?_
  refine cs_iast (pc := 123) (cs_va i + 9) (10 + i) 11 (cs_pva (by omega) 9 (by decide) 9 rfl) dX5_told_123 (fun M13 => ?_)
  refine zs_aload_n (pc := 124) 1 dX5_told_124 rfl rfl ?_
  refine ct_laws (pc := 125) q381 dX5_told_125 ?_
  refine zs_iload_n (pc := 128) 2 dX5_told_128 rfl rfl ?_
  refine ct_lawv (pc := 129) dX5_told_129 (fun k14 hk14 => ?_)
  refine zs_aload_n (pc := 130) 0 dX5_told_130 rfl rfl ?_
  refine cs_getr (pc := 131) (cs_va i) (10 + i) 11 (v := .ref (c + (cs_va i + 8))) (cs_pv (by omega)) zc_X5 (cs_vcl (by omega)) (by decide) (cs_vsc (by omega) 11 false (by decide)) (cs_vcv (by omega) 11 8 (by decide)) q461 dX5_told_131 ?_
  refine ct_law (pc := 134) (by omega) hk14 q1156 dX5_told_134 (Nat.le_of_ble_eq_true rfl) (Nat.le_of_ble_eq_true rfl) (fun p15 => ?_)
  exact zs_iret (pc := 137) dX5_told_137 rfl rfl rfl
theorem wv_grows : zs_mV RX5 yX5_grows cX5_grows 3 (some .int) 2 := ⟨q1139, q1140, q145, q1141, by decide, by decide +kernel⟩
def gv_grows (T : zt_T) (M : cs_S) (i : Nat) (a2 : Int32) : Option (Int32 × cs_S) :=
(zs_ix 4 0).bind fun k1 =>
if (zt_lw T k1).isSome = true then ((gv_told T M i 0 a2 0 0).bind fun p2 =>
some ((zs_min 99 p2.1), p2.2))
else (some (1, M))
set_option maxHeartbeats 4000000 in
theorem kv_xgrows (D : zs_D) (W : cs_W) (P : Nat → Bool) (h0 : zs_AH) (c : Nat) (M : cs_S) (i : Nat) (hi : i < 45) (a2 : Int32) : zs_Con D (cs_R W P h0 c) cs_bd zs_eI yX5_grows cX5_grows 3 (some .int) 423 [.ref (c + cs_va i), .ref (zt_ad W.2.1 0), .int a2] M (gv_grows W.2.1 M i a2) := by
  unfold gv_grows
  refine zs_con (own := RX5) (nm := "grows") pl_X5 rfl rfl (Nat.le_of_ble_eq_true rfl) ?_
  refine zs_lv (lv' := [(0, .ref (c + cs_va i)), (1, .ref (zt_ad W.2.1 0)), (2, .int a2)]) rfl ?_
  refine zs_aload_n (pc := 0) 1 dX5_grows_0 rfl rfl ?_
  refine ct_laws (pc := 1) q381 dX5_grows_1 ?_
  refine zs_iconst (pc := 4) (v := 0) dX5_grows_4 rfl ?_
  refine ct_lawv (pc := 5) dX5_grows_5 (fun k1 hk1 => ?_)
  refine ct_ifnn (pc := 6) (tgt := 13) dX5_grows_6 (by decide) ?_ ?_
  · refine zs_bipush (pc := 13) (v := 99) dX5_grows_13 (by decide) ?_
    refine zs_aload_n (pc := 15) 0 dX5_grows_15 rfl rfl ?_
    refine zs_aload_n (pc := 16) 1 dX5_grows_16 rfl rfl ?_
    refine zs_iconst (pc := 17) (v := 0) dX5_grows_17 rfl ?_
    refine zs_iload_n (pc := 18) 2 dX5_grows_18 rfl rfl ?_
    refine zs_iconst (pc := 19) (v := 0) dX5_grows_19 rfl ?_
    refine zs_iconst (pc := 20) (v := 0) dX5_grows_20 rfl ?_
    refine zs_callVwI (pc := 21) [.ref (zt_ad W.2.1 0), .int 0, .int a2, .int 0, .int 0] [.int 99] (kv_xtold D W P h0 c M i (by omega) 0 a2 0 0) wv_told q1142 zc_X5 (cs_rcvv (by omega)) dX5_grows_21 rfl rfl (Nat.le_of_ble_eq_true rfl) (Nat.le_of_ble_eq_true rfl) (fun p2 => ?_)
    refine zs_mmin (pc := 24) q1174 dX5_grows_24 (Nat.le_of_ble_eq_true rfl) (Nat.le_of_ble_eq_true rfl) ?_
    exact zs_iret (pc := 27) dX5_grows_27 rfl rfl rfl
  · refine zs_iconst (pc := 9) (v := 1) dX5_grows_9 rfl ?_
    refine zs_goto (pc := 10) (tgt := 27) dX5_grows_10 (by decide) ?_
    exact zs_iret (pc := 27) dX5_grows_27 rfl rfl rfl
theorem wv_weakens : zs_mV RX5 yX5_weakens cX5_weakens 3 (some .int) 2 := ⟨q1176, q1177, q145, q1178, by decide, by decide +kernel⟩
def gv_weakens (T : zt_T) (M : cs_S) (i : Nat) (a2 : Int32) : Option (Int32 × cs_S) :=
(zs_ix 4 1).bind fun k1 =>
if (zt_lw T k1).isSome = true then ((gv_told T M i 1 a2 0 0).bind fun p2 =>
some ((zs_min 99 p2.1), p2.2))
else (some (1, M))
set_option maxHeartbeats 4000000 in
theorem kv_xweakens (D : zs_D) (W : cs_W) (P : Nat → Bool) (h0 : zs_AH) (c : Nat) (M : cs_S) (i : Nat) (hi : i < 45) (a2 : Int32) : zs_Con D (cs_R W P h0 c) cs_bd zs_eI yX5_weakens cX5_weakens 3 (some .int) 423 [.ref (c + cs_va i), .ref (zt_ad W.2.1 0), .int a2] M (gv_weakens W.2.1 M i a2) := by
  unfold gv_weakens
  refine zs_con (own := RX5) (nm := "weakens") pl_X5 rfl rfl (Nat.le_of_ble_eq_true rfl) ?_
  refine zs_lv (lv' := [(0, .ref (c + cs_va i)), (1, .ref (zt_ad W.2.1 0)), (2, .int a2)]) rfl ?_
  refine zs_aload_n (pc := 0) 1 dX5_weakens_0 rfl rfl ?_
  refine ct_laws (pc := 1) q381 dX5_weakens_1 ?_
  refine zs_iconst (pc := 4) (v := 1) dX5_weakens_4 rfl ?_
  refine ct_lawv (pc := 5) dX5_weakens_5 (fun k1 hk1 => ?_)
  refine ct_ifnn (pc := 6) (tgt := 13) dX5_weakens_6 (by decide) ?_ ?_
  · refine zs_bipush (pc := 13) (v := 99) dX5_weakens_13 (by decide) ?_
    refine zs_aload_n (pc := 15) 0 dX5_weakens_15 rfl rfl ?_
    refine zs_aload_n (pc := 16) 1 dX5_weakens_16 rfl rfl ?_
    refine zs_iconst (pc := 17) (v := 1) dX5_weakens_17 rfl ?_
    refine zs_iload_n (pc := 18) 2 dX5_weakens_18 rfl rfl ?_
    refine zs_iconst (pc := 19) (v := 0) dX5_weakens_19 rfl ?_
    refine zs_iconst (pc := 20) (v := 0) dX5_weakens_20 rfl ?_
    refine zs_callVwI (pc := 21) [.ref (zt_ad W.2.1 0), .int 1, .int a2, .int 0, .int 0] [.int 99] (kv_xtold D W P h0 c M i (by omega) 1 a2 0 0) wv_told q1142 zc_X5 (cs_rcvv (by omega)) dX5_weakens_21 rfl rfl (Nat.le_of_ble_eq_true rfl) (Nat.le_of_ble_eq_true rfl) (fun p2 => ?_)
    refine zs_mmin (pc := 24) q1174 dX5_weakens_24 (Nat.le_of_ble_eq_true rfl) (Nat.le_of_ble_eq_true rfl) ?_
    exact zs_iret (pc := 27) dX5_weakens_27 rfl rfl rfl
  · refine zs_iconst (pc := 9) (v := 1) dX5_weakens_9 rfl ?_
    refine zs_goto (pc := 10) (tgt := 27) dX5_weakens_10 (by decide) ?_
    exact zs_iret (pc := 27) dX5_weakens_27 rfl rfl rfl
theorem wv_costs : zs_mV RX5 yX5_costs cX5_costs 3 (some .int) 2 := ⟨q1180, q1181, q145, q1182, by decide, by decide +kernel⟩
def gv_costs (T : zt_T) (M : cs_S) (i : Nat) (a2 : Int32) : Option (Int32 × cs_S) :=
(zs_ix 4 3).bind fun k1 =>
(if (zt_lw T k1).isSome = true then ((gv_told T M i 3 a2 0 0).bind fun p3 =>
some (p3.1, p3.2))
else ((zs_ald 6 (M.2 (10 + i) 0) a2).bind fun x4 =>
some (x4, M))).bind fun (p2 : Int32 × cs_S) =>
some ((zs_min 99 p2.1), p2.2)
set_option maxHeartbeats 4000000 in
theorem kv_xcosts (D : zs_D) (W : cs_W) (P : Nat → Bool) (h0 : zs_AH) (c : Nat) (M : cs_S) (i : Nat) (hi : i < 45) (a2 : Int32) : zs_Con D (cs_R W P h0 c) cs_bd zs_eI yX5_costs cX5_costs 3 (some .int) 423 [.ref (c + cs_va i), .ref (zt_ad W.2.1 0), .int a2] M (gv_costs W.2.1 M i a2) := by
  unfold gv_costs
  refine zs_con (own := RX5) (nm := "costs") pl_X5 rfl rfl (Nat.le_of_ble_eq_true rfl) ?_
  refine zs_lv (lv' := [(0, .ref (c + cs_va i)), (1, .ref (zt_ad W.2.1 0)), (2, .int a2)]) rfl ?_
  refine zs_bipush (pc := 0) (v := 99) dX5_costs_0 (by decide) ?_
  refine zs_aload_n (pc := 2) 1 dX5_costs_2 rfl rfl ?_
  refine ct_laws (pc := 3) q381 dX5_costs_3 ?_
  refine zs_iconst (pc := 6) (v := 3) dX5_costs_6 rfl ?_
  refine ct_lawv (pc := 7) dX5_costs_7 (fun k1 hk1 => ?_)
  refine zs_join (pc := 8) (fun (p2 : Int32 × cs_S) => p2.2) 29 (fun (p2 : Int32 × cs_S) => []) (fun (p2 : Int32 × cs_S) => [.int p2.1, .int 99]) (fun p2 => ?_) (fun h29 => ?_)
  · refine zs_mmin (pc := 29) q1174 dX5_costs_29 (Nat.le_of_ble_eq_true rfl) (Nat.le_of_ble_eq_true rfl) ?_
    exact zs_iret (pc := 32) dX5_costs_32 rfl rfl rfl
  · refine ct_ifnn (pc := 8) (tgt := 20) dX5_costs_8 (by decide) ?_ ?_
    · refine zs_aload_n (pc := 20) 0 dX5_costs_20 rfl rfl ?_
      refine zs_aload_n (pc := 21) 1 dX5_costs_21 rfl rfl ?_
      refine zs_iconst (pc := 22) (v := 3) dX5_costs_22 rfl ?_
      refine zs_iload_n (pc := 23) 2 dX5_costs_23 rfl rfl ?_
      refine zs_iconst (pc := 24) (v := 0) dX5_costs_24 rfl ?_
      refine zs_iconst (pc := 25) (v := 0) dX5_costs_25 rfl ?_
      refine zs_callVwI (pc := 26) [.ref (zt_ad W.2.1 0), .int 3, .int a2, .int 0, .int 0] [.int 99] (kv_xtold D W P h0 c M i (by omega) 3 a2 0 0) wv_told q1142 zc_X5 (cs_rcvv (by omega)) dX5_costs_26 rfl rfl (Nat.le_of_ble_eq_true rfl) (Nat.le_of_ble_eq_true rfl) (fun p3 => ?_)
      refine zs_sub (lv' := []) [] rfl ?_
      exact h29 (p3.1, p3.2)
    · refine zs_aload_n (pc := 11) 0 dX5_costs_11 rfl rfl ?_
      refine cs_getr (pc := 12) (cs_va i) (10 + i) 0 (v := .ref (c + (cs_va i + 1))) (cs_pv (by omega)) zc_X5 (cs_vcl (by omega)) (by decide) (cs_vsc (by omega) 0 false (by decide)) (cs_vcv (by omega) 0 1 (by decide)) q439 dX5_costs_12 ?_
      refine zs_iload_n (pc := 15) 2 dX5_costs_15 rfl rfl ?_
      refine cs_iald (pc := 16) (cs_va i + 1) (10 + i) 0 (cs_pva (by omega) 1 (by decide) 6 rfl) dX5_costs_16 (fun x4 => ?_)
      refine zs_goto (pc := 17) (tgt := 29) dX5_costs_17 (by decide) ?_
      refine zs_sub (lv' := []) [] rfl ?_
      exact h29 (x4, M)
theorem wh_house : zs_mV RX0 yX0_house cX0_house 3 (some .int) 2 := ⟨q1117, q1118, q134, q1119, by decide, by decide +kernel⟩
def gh_house (T : zt_T) (M : cs_S) (a1 : Int32) (a2 : Int32) : Option (Int32 × cs_S) :=
(gh_isHouse T M a1).bind fun b1 =>
if b1 = true then (if a2 = 0 then ((zs_ald 6 (M.2 (10 + 0) 0) a1).bind fun x2 =>
some (x2, M))
else if a2 = 1 then ((zs_ix (zt_n T) a1).bind fun k3 =>
some ((zt_hi T k3 2), M))
else if a2 = 2 then ((gv_placeOf T M 0 a1).bind fun x4 =>
some (x4, M))
else if a2 = 3 then ((zs_ald 6 (M.2 (10 + 0) 1) a1).bind fun x5 =>
some (x5, M))
else if a2 = 4 then ((zs_ald 6 (M.2 (10 + 0) 2) a1).bind fun x6 =>
some (x6, M))
else if a2 = 5 then ((gv_grows T M 0 a1).bind fun p7 =>
some (p7.1, p7.2))
else if a2 = 6 then ((gv_weakens T M 0 a1).bind fun p8 =>
some (p8.1, p8.2))
else if a2 = 7 then ((gv_costs T M 0 a1).bind fun p9 =>
some (p9.1, p9.2))
else if a2 = 8 then ((zs_ald 6 (M.2 (10 + 0) 3) a1).bind fun x10 =>
some (x10, M))
else (some ((-1), M)))
else (some ((-1), M))
set_option maxHeartbeats 4000000 in
theorem kh_house (D : zs_D) (W : cs_W) (P : Nat → Bool) (h0 : zs_AH) (c : Nat) (M : cs_S) (a1 : Int32) (a2 : Int32) : zs_Con D (cs_R W P h0 c) cs_bd zs_eI yX0_house cX0_house 3 (some .int) 424 [.ref (c + 0), .int a1, .int a2] M (gh_house W.2.1 M a1 a2) := by
  unfold gh_house
  refine zs_con (own := RX0) (nm := "house") pl_X0 rfl rfl (Nat.le_of_ble_eq_true rfl) ?_
  refine zs_lv (lv' := [(0, .ref (c + 0)), (1, .int a1), (2, .int a2)]) rfl ?_
  refine zs_aload_n (pc := 0) 0 dX0_house_0 rfl rfl ?_
  refine zs_iload_n (pc := 1) 1 dX0_house_1 rfl rfl ?_
  refine zs_callVrB (pc := 2) [.int a1] [] (kh_isHouse D W P h0 c M a1) wh_isHouse q1120 zc_X0 cs_rcv0 dX0_house_2 rfl rfl (Nat.le_of_ble_eq_true rfl) (Nat.le_of_ble_eq_true rfl) (fun b1 => ?_)
  refine zs_if_t (pc := 5) (tgt := 10) dX0_house_5 (by decide) ?_ ?_
  · refine zs_iload_n (pc := 10) 2 dX0_house_10 rfl rfl ?_
    refine zs_tsw (pc := 11) [(0, 60), (1, 70), (2, 88), (3, 97), (4, 107), (5, 117), (6, 130), (7, 143), (8, 156)] 166 dX0_house_11 (by decide +kernel) ?_
    refine zs_case ?_ ?_
    · refine zs_aload_n (pc := 60) 0 dX0_house_60 rfl rfl ?_
      refine cs_getr (pc := 61) 0 0 7 (v := .ref (c + cs_va 0)) ⟨⟨by decide, by decide⟩, rfl⟩ zc_X0 ⟨rfl, rfl⟩ (by decide) rfl rfl q536 dX0_house_61 ?_
      refine cs_getr (pc := 64) (cs_va 0) (10 + 0) 0 (v := .ref (c + (cs_va 0 + 1))) (cs_pv (by omega)) zc_X5 (cs_vcl (by omega)) (by decide) (cs_vsc (by omega) 0 false (by decide)) (cs_vcv (by omega) 0 1 (by decide)) q440 dX0_house_64 ?_
      refine zs_iload_n (pc := 67) 1 dX0_house_67 rfl rfl ?_
      refine cs_iald (pc := 68) (cs_va 0 + 1) (10 + 0) 0 (cs_pva (by omega) 1 (by decide) 6 rfl) dX0_house_68 (fun x2 => ?_)
      exact zs_iret (pc := 69) dX0_house_69 rfl rfl rfl
    refine zs_case ?_ ?_
    · refine zs_aload_n (pc := 70) 0 dX0_house_70 rfl rfl ?_
      refine cs_getr (pc := 71) 0 0 3 (v := .ref (zt_ad W.2.1 0)) ⟨⟨by decide, by decide⟩, rfl⟩ zc_X0 ⟨rfl, rfl⟩ (by decide) rfl rfl q532 dX0_house_71 ?_
      refine ct_houses (pc := 74) q378 dX0_house_74 ?_
      refine zs_iload_n (pc := 77) 1 dX0_house_77 rfl rfl ?_
      refine ct_get (pc := 78) q1132 dX0_house_78 (Nat.le_of_ble_eq_true rfl) (Nat.le_of_ble_eq_true rfl) (fun k3 hk3 => ?_)
      refine ct_cast (pc := 81) hk3 q1133 dX0_house_81 ?_
      refine ct_strong (pc := 84) hk3 q1044 dX0_house_84 ?_
      exact zs_iret (pc := 87) dX0_house_87 rfl rfl rfl
    refine zs_case ?_ ?_
    · refine zs_aload_n (pc := 88) 0 dX0_house_88 rfl rfl ?_
      refine cs_getr (pc := 89) 0 0 7 (v := .ref (c + cs_va 0)) ⟨⟨by decide, by decide⟩, rfl⟩ zc_X0 ⟨rfl, rfl⟩ (by decide) rfl rfl q536 dX0_house_89 ?_
      refine zs_iload_n (pc := 92) 1 dX0_house_92 rfl rfl ?_
      refine zs_callVrI (pc := 93) [.int a1] [] (kv_xplaceOf D W P h0 c M 0 (by omega) a1) wv_placeOf q1134 zc_X5 (cs_rcvv (by omega)) dX0_house_93 rfl rfl (Nat.le_of_ble_eq_true rfl) (Nat.le_of_ble_eq_true rfl) (fun x4 => ?_)
      exact zs_iret (pc := 96) dX0_house_96 rfl rfl rfl
    refine zs_case ?_ ?_
    · refine zs_aload_n (pc := 97) 0 dX0_house_97 rfl rfl ?_
      refine cs_getr (pc := 98) 0 0 7 (v := .ref (c + cs_va 0)) ⟨⟨by decide, by decide⟩, rfl⟩ zc_X0 ⟨rfl, rfl⟩ (by decide) rfl rfl q536 dX0_house_98 ?_
      refine cs_getr (pc := 101) (cs_va 0) (10 + 0) 1 (v := .ref (c + (cs_va 0 + 2))) (cs_pv (by omega)) zc_X5 (cs_vcl (by omega)) (by decide) (cs_vsc (by omega) 1 false (by decide)) (cs_vcv (by omega) 1 2 (by decide)) q442 dX0_house_101 ?_
      refine zs_iload_n (pc := 104) 1 dX0_house_104 rfl rfl ?_
      refine cs_iald (pc := 105) (cs_va 0 + 2) (10 + 0) 1 (cs_pva (by omega) 2 (by decide) 6 rfl) dX0_house_105 (fun x5 => ?_)
      exact zs_iret (pc := 106) dX0_house_106 rfl rfl rfl
    refine zs_case ?_ ?_
    · refine zs_aload_n (pc := 107) 0 dX0_house_107 rfl rfl ?_
      refine cs_getr (pc := 108) 0 0 7 (v := .ref (c + cs_va 0)) ⟨⟨by decide, by decide⟩, rfl⟩ zc_X0 ⟨rfl, rfl⟩ (by decide) rfl rfl q536 dX0_house_108 ?_
      refine cs_getr (pc := 111) (cs_va 0) (10 + 0) 2 (v := .ref (c + (cs_va 0 + 3))) (cs_pv (by omega)) zc_X5 (cs_vcl (by omega)) (by decide) (cs_vsc (by omega) 2 false (by decide)) (cs_vcv (by omega) 2 3 (by decide)) q444 dX0_house_111 ?_
      refine zs_iload_n (pc := 114) 1 dX0_house_114 rfl rfl ?_
      refine cs_iald (pc := 115) (cs_va 0 + 3) (10 + 0) 2 (cs_pva (by omega) 3 (by decide) 6 rfl) dX0_house_115 (fun x6 => ?_)
      exact zs_iret (pc := 116) dX0_house_116 rfl rfl rfl
    refine zs_case ?_ ?_
    · refine zs_aload_n (pc := 117) 0 dX0_house_117 rfl rfl ?_
      refine cs_getr (pc := 118) 0 0 7 (v := .ref (c + cs_va 0)) ⟨⟨by decide, by decide⟩, rfl⟩ zc_X0 ⟨rfl, rfl⟩ (by decide) rfl rfl q536 dX0_house_118 ?_
      refine zs_aload_n (pc := 121) 0 dX0_house_121 rfl rfl ?_
      refine cs_getr (pc := 122) 0 0 3 (v := .ref (zt_ad W.2.1 0)) ⟨⟨by decide, by decide⟩, rfl⟩ zc_X0 ⟨rfl, rfl⟩ (by decide) rfl rfl q532 dX0_house_122 ?_
      refine zs_iload_n (pc := 125) 1 dX0_house_125 rfl rfl ?_
      refine zs_callVwI (pc := 126) [.ref (zt_ad W.2.1 0), .int a1] [] (kv_xgrows D W P h0 c M 0 (by omega) a1) wv_grows q1138 zc_X5 (cs_rcvv (by omega)) dX0_house_126 rfl rfl (Nat.le_of_ble_eq_true rfl) (Nat.le_of_ble_eq_true rfl) (fun p7 => ?_)
      exact zs_iret (pc := 129) dX0_house_129 rfl rfl rfl
    refine zs_case ?_ ?_
    · refine zs_aload_n (pc := 130) 0 dX0_house_130 rfl rfl ?_
      refine cs_getr (pc := 131) 0 0 7 (v := .ref (c + cs_va 0)) ⟨⟨by decide, by decide⟩, rfl⟩ zc_X0 ⟨rfl, rfl⟩ (by decide) rfl rfl q536 dX0_house_131 ?_
      refine zs_aload_n (pc := 134) 0 dX0_house_134 rfl rfl ?_
      refine cs_getr (pc := 135) 0 0 3 (v := .ref (zt_ad W.2.1 0)) ⟨⟨by decide, by decide⟩, rfl⟩ zc_X0 ⟨rfl, rfl⟩ (by decide) rfl rfl q532 dX0_house_135 ?_
      refine zs_iload_n (pc := 138) 1 dX0_house_138 rfl rfl ?_
      refine zs_callVwI (pc := 139) [.ref (zt_ad W.2.1 0), .int a1] [] (kv_xweakens D W P h0 c M 0 (by omega) a1) wv_weakens q1175 zc_X5 (cs_rcvv (by omega)) dX0_house_139 rfl rfl (Nat.le_of_ble_eq_true rfl) (Nat.le_of_ble_eq_true rfl) (fun p8 => ?_)
      exact zs_iret (pc := 142) dX0_house_142 rfl rfl rfl
    refine zs_case ?_ ?_
    · refine zs_aload_n (pc := 143) 0 dX0_house_143 rfl rfl ?_
      refine cs_getr (pc := 144) 0 0 7 (v := .ref (c + cs_va 0)) ⟨⟨by decide, by decide⟩, rfl⟩ zc_X0 ⟨rfl, rfl⟩ (by decide) rfl rfl q536 dX0_house_144 ?_
      refine zs_aload_n (pc := 147) 0 dX0_house_147 rfl rfl ?_
      refine cs_getr (pc := 148) 0 0 3 (v := .ref (zt_ad W.2.1 0)) ⟨⟨by decide, by decide⟩, rfl⟩ zc_X0 ⟨rfl, rfl⟩ (by decide) rfl rfl q532 dX0_house_148 ?_
      refine zs_iload_n (pc := 151) 1 dX0_house_151 rfl rfl ?_
      refine zs_callVwI (pc := 152) [.ref (zt_ad W.2.1 0), .int a1] [] (kv_xcosts D W P h0 c M 0 (by omega) a1) wv_costs q1179 zc_X5 (cs_rcvv (by omega)) dX0_house_152 rfl rfl (Nat.le_of_ble_eq_true rfl) (Nat.le_of_ble_eq_true rfl) (fun p9 => ?_)
      exact zs_iret (pc := 155) dX0_house_155 rfl rfl rfl
    refine zs_case ?_ ?_
    · refine zs_aload_n (pc := 156) 0 dX0_house_156 rfl rfl ?_
      refine cs_getr (pc := 157) 0 0 7 (v := .ref (c + cs_va 0)) ⟨⟨by decide, by decide⟩, rfl⟩ zc_X0 ⟨rfl, rfl⟩ (by decide) rfl rfl q536 dX0_house_157 ?_
      refine cs_getr (pc := 160) (cs_va 0) (10 + 0) 3 (v := .ref (c + (cs_va 0 + 4))) (cs_pv (by omega)) zc_X5 (cs_vcl (by omega)) (by decide) (cs_vsc (by omega) 3 false (by decide)) (cs_vcv (by omega) 3 4 (by decide)) q446 dX0_house_160 ?_
      refine zs_iload_n (pc := 163) 1 dX0_house_163 rfl rfl ?_
      refine cs_iald (pc := 164) (cs_va 0 + 4) (10 + 0) 3 (cs_pva (by omega) 4 (by decide) 6 rfl) dX0_house_164 (fun x10 => ?_)
      exact zs_iret (pc := 165) dX0_house_165 rfl rfl rfl
    refine zs_dflt ?_
    refine zs_iconst (pc := 166) (v := (-1)) dX0_house_166 rfl ?_
    exact zs_iret (pc := 167) dX0_house_167 rfl rfl rfl
  · refine zs_iconst (pc := 8) (v := (-1)) dX0_house_8 rfl ?_
    exact zs_iret (pc := 9) dX0_house_9 rfl rfl rfl
theorem wh_areTwo : zs_mV RX0 yX0_areTwo cX0_areTwo 3 (some .boolean) 2 := ⟨q1189, qs33, q134, q1190, by decide, by decide +kernel⟩
def gh_areTwo (T : zt_T) (M : cs_S) (a1 : Int32) (a2 : Int32) : Option (Bool) :=
(gh_isHouse T M a1).bind fun b1 =>
zs_let (fun (p2 : Unit) => some false) fun J25 =>
if b1 = true then ((gh_isHouse T M a2).bind fun b3 =>
if b3 = true then (if a1 = a2 then (J25 ())
else (some true))
else (J25 ()))
else (J25 ())
set_option maxHeartbeats 4000000 in
theorem kh_areTwo (D : zs_D) (W : cs_W) (P : Nat → Bool) (h0 : zs_AH) (c : Nat) (M : cs_S) (a1 : Int32) (a2 : Int32) : zs_Con D (cs_R W P h0 c) cs_bd zs_eB yX0_areTwo cX0_areTwo 3 (some .boolean) 3 [.ref (c + 0), .int a1, .int a2] M ((gh_areTwo W.2.1 M a1 a2).map fun x => (x, M)) := by
  unfold gh_areTwo
  refine zs_conR (own := RX0) (nm := "areTwo") pl_X0 rfl rfl (Nat.le_of_ble_eq_true rfl) ?_
  refine zs_lv (lv' := [(0, .ref (c + 0)), (1, .int a1), (2, .int a2)]) rfl ?_
  refine zs_aload_n (pc := 0) 0 dX0_areTwo_0 rfl rfl ?_
  refine zs_iload_n (pc := 1) 1 dX0_areTwo_1 rfl rfl ?_
  refine zs_callVrB (pc := 2) [.int a1] [] (kh_isHouse D W P h0 c M a1) wh_isHouse q1120 zc_X0 cs_rcv0 dX0_areTwo_2 rfl rfl (Nat.le_of_ble_eq_true rfl) (Nat.le_of_ble_eq_true rfl) (fun b1 => ?_)
  refine zs_letJ (pc := 5) (fun (p2 : Unit) => M) 25 (fun (p2 : Unit) => []) (fun (p2 : Unit) => []) (fun p2 => ?_) (fun J25 h25 => ?_)
  · refine zs_iconst (pc := 25) (v := 0) dX0_areTwo_25 rfl ?_
    exact zs_iret (pc := 26) dX0_areTwo_26 rfl rfl rfl
  · refine zs_if_f (pc := 5) (tgt := 25) dX0_areTwo_5 (by decide) ?_ ?_
    · refine zs_aload_n (pc := 8) 0 dX0_areTwo_8 rfl rfl ?_
      refine zs_iload_n (pc := 9) 2 dX0_areTwo_9 rfl rfl ?_
      refine zs_callVrB (pc := 10) [.int a2] [] (kh_isHouse D W P h0 c M a2) wh_isHouse q1120 zc_X0 cs_rcv0 dX0_areTwo_10 rfl rfl (Nat.le_of_ble_eq_true rfl) (Nat.le_of_ble_eq_true rfl) (fun b3 => ?_)
      refine zs_if_f (pc := 13) (tgt := 25) dX0_areTwo_13 (by decide) ?_ ?_
      · refine zs_iload_n (pc := 16) 1 dX0_areTwo_16 rfl rfl ?_
        refine zs_iload_n (pc := 17) 2 dX0_areTwo_17 rfl rfl ?_
        refine zs_icmp_eq (pc := 18) (tgt := 25) dX0_areTwo_18 (by decide) ?_ ?_
        · refine zs_sub (lv' := []) [] rfl ?_
          exact h25 ()
        · refine zs_iconst (pc := 21) (v := 1) dX0_areTwo_21 rfl ?_
          refine zs_goto (pc := 22) (tgt := 26) dX0_areTwo_22 (by decide) ?_
          exact zs_iret (pc := 26) dX0_areTwo_26 rfl rfl rfl
      · refine zs_sub (lv' := []) [] rfl ?_
        exact h25 ()
    · refine zs_sub (lv' := []) [] rfl ?_
      exact h25 ()
theorem wh_likes : zs_mV RX0 yX0_likes cX0_likes 3 (some .int) 2 := ⟨q1184, q1185, q134, q1186, by decide, by decide +kernel⟩
def gh_likes (T : zt_T) (M : cs_S) (a1 : Int32) (a2 : Int32) : Option (Int32) :=
(gh_areTwo T M a1 a2).bind fun b1 =>
if b1 = true then ((zs_ix 6 a1).bind fun k2 =>
(zs_ald 6 (zt_lk T k2) a2).bind fun x3 =>
some x3)
else (some (-1))
set_option maxHeartbeats 4000000 in
theorem kh_likes (D : zs_D) (W : cs_W) (P : Nat → Bool) (h0 : zs_AH) (c : Nat) (M : cs_S) (a1 : Int32) (a2 : Int32) : zs_Con D (cs_R W P h0 c) cs_bd zs_eI yX0_likes cX0_likes 3 (some .int) 4 [.ref (c + 0), .int a1, .int a2] M ((gh_likes W.2.1 M a1 a2).map fun x => (x, M)) := by
  unfold gh_likes
  refine zs_conR (own := RX0) (nm := "likes") pl_X0 rfl rfl (Nat.le_of_ble_eq_true rfl) ?_
  refine zs_lv (lv' := [(0, .ref (c + 0)), (1, .int a1), (2, .int a2)]) rfl ?_
  refine zs_aload_n (pc := 0) 0 dX0_likes_0 rfl rfl ?_
  refine zs_iload_n (pc := 1) 1 dX0_likes_1 rfl rfl ?_
  refine zs_iload_n (pc := 2) 2 dX0_likes_2 rfl rfl ?_
  refine zs_callVrB (pc := 3) [.int a1, .int a2] [] (kh_areTwo D W P h0 c M a1 a2) wh_areTwo q1187 zc_X0 cs_rcv0 dX0_likes_3 rfl rfl (Nat.le_of_ble_eq_true rfl) (Nat.le_of_ble_eq_true rfl) (fun b1 => ?_)
  refine zs_if_f (pc := 6) (tgt := 23) dX0_likes_6 (by decide) ?_ ?_
  · refine zs_aload_n (pc := 9) 0 dX0_likes_9 rfl rfl ?_
    refine cs_getr (pc := 10) 0 0 3 (v := .ref (zt_ad W.2.1 0)) ⟨⟨by decide, by decide⟩, rfl⟩ zc_X0 ⟨rfl, rfl⟩ (by decide) rfl rfl q532 dX0_likes_10 ?_
    refine ct_like (pc := 13) q384 dX0_likes_13 ?_
    refine zs_iload_n (pc := 16) 1 dX0_likes_16 rfl rfl ?_
    refine ct_lkrow (pc := 17) dX0_likes_17 (fun k2 hk2 => ?_)
    refine zs_iload_n (pc := 18) 2 dX0_likes_18 rfl rfl ?_
    refine ct_lkald (pc := 19) hk2 dX0_likes_19 (fun x3 => ?_)
    refine zs_goto (pc := 20) (tgt := 24) dX0_likes_20 (by decide) ?_
    exact zs_iret (pc := 24) dX0_likes_24 rfl rfl rfl
  · refine zs_iconst (pc := 23) (v := (-1)) dX0_likes_23 rfl ?_
    exact zs_iret (pc := 24) dX0_likes_24 rfl rfl rfl
theorem wv_joins : zs_mV RX5 yX5_joins cX5_joins 5 (some .int) 4 := ⟨q1196, q1197, q145, q1198, by decide, by decide +kernel⟩
def gv_joins (T : zt_T) (M : cs_S) (i : Nat) (a2 : Int32) (a3 : Int32) (a4 : Int32) : Option (Int32 × cs_S) :=
(zs_ix 4 2).bind fun k1 =>
if (zt_lw T k1).isSome = true then ((gv_strength T M i a3).bind fun x2 =>
(gv_told T M i 2 a2 a4 x2).bind fun p3 =>
some ((zs_min 999 p3.1), p3.2))
else (some ((10 * a4), M))
set_option maxHeartbeats 4000000 in
theorem kv_xjoins (D : zs_D) (W : cs_W) (P : Nat → Bool) (h0 : zs_AH) (c : Nat) (M : cs_S) (i : Nat) (hi : i < 45) (a2 : Int32) (a3 : Int32) (a4 : Int32) : zs_Con D (cs_R W P h0 c) cs_bd zs_eI yX5_joins cX5_joins 5 (some .int) 423 [.ref (c + cs_va i), .ref (zt_ad W.2.1 0), .int a2, .int a3, .int a4] M (gv_joins W.2.1 M i a2 a3 a4) := by
  unfold gv_joins
  refine zs_con (own := RX5) (nm := "joins") pl_X5 rfl rfl (Nat.le_of_ble_eq_true rfl) ?_
  refine zs_lv (lv' := [(0, .ref (c + cs_va i)), (1, .ref (zt_ad W.2.1 0)), (2, .int a2), (3, .int a3), (4, .int a4)]) rfl ?_
  refine zs_aload_n (pc := 0) 1 dX5_joins_0 rfl rfl ?_
  refine ct_laws (pc := 1) q381 dX5_joins_1 ?_
  refine zs_iconst (pc := 4) (v := 2) dX5_joins_4 rfl ?_
  refine ct_lawv (pc := 5) dX5_joins_5 (fun k1 hk1 => ?_)
  refine ct_ifnn (pc := 6) (tgt := 17) dX5_joins_6 (by decide) ?_ ?_
  · refine zs_sipush (pc := 17) (v := 999) dX5_joins_17 (by decide) ?_
    refine zs_aload_n (pc := 20) 0 dX5_joins_20 rfl rfl ?_
    refine zs_aload_n (pc := 21) 1 dX5_joins_21 rfl rfl ?_
    refine zs_iconst (pc := 22) (v := 2) dX5_joins_22 rfl ?_
    refine zs_iload_n (pc := 23) 2 dX5_joins_23 rfl rfl ?_
    refine zs_iload (pc := 24) 4 dX5_joins_24 rfl ?_
    refine zs_aload_n (pc := 26) 0 dX5_joins_26 rfl rfl ?_
    refine zs_aload_n (pc := 27) 1 dX5_joins_27 rfl rfl ?_
    refine zs_iload_n (pc := 28) 3 dX5_joins_28 rfl rfl ?_
    refine zs_callVrI (pc := 29) [.ref (zt_ad W.2.1 0), .int a3] [.int a4, .int a2, .int 2, .ref (zt_ad W.2.1 0), .ref (c + cs_va i), .int 999] (kv_xstrength D W P h0 c M i (by omega) a3) wv_strength q1146 zc_X5 (cs_rcvv (by omega)) dX5_joins_29 rfl rfl (Nat.le_of_ble_eq_true rfl) (Nat.le_of_ble_eq_true rfl) (fun x2 => ?_)
    refine zs_callVwI (pc := 32) [.ref (zt_ad W.2.1 0), .int 2, .int a2, .int a4, .int x2] [.int 999] (kv_xtold D W P h0 c M i (by omega) 2 a2 a4 x2) wv_told q1142 zc_X5 (cs_rcvv (by omega)) dX5_joins_32 rfl rfl (Nat.le_of_ble_eq_true rfl) (Nat.le_of_ble_eq_true rfl) (fun p3 => ?_)
    refine zs_mmin (pc := 35) q1174 dX5_joins_35 (Nat.le_of_ble_eq_true rfl) (Nat.le_of_ble_eq_true rfl) ?_
    exact zs_iret (pc := 38) dX5_joins_38 rfl rfl rfl
  · refine zs_bipush (pc := 9) (v := 10) dX5_joins_9 (by decide) ?_
    refine zs_iload (pc := 11) 4 dX5_joins_11 rfl ?_
    refine zs_imul (pc := 13) dX5_joins_13 ?_
    refine zs_goto (pc := 14) (tgt := 38) dX5_joins_14 (by decide) ?_
    exact zs_iret (pc := 38) dX5_joins_38 rfl rfl rfl
theorem wh_joins : zs_mV RX0 yX0_joins cX0_joins 3 (some .int) 2 := ⟨q1192, q1193, q134, q1194, by decide, by decide +kernel⟩
def gh_joins (T : zt_T) (M : cs_S) (a1 : Int32) (a2 : Int32) : Option (Int32 × cs_S) :=
(gh_areTwo T M a1 a2).bind fun b1 =>
if b1 = true then ((zs_ix 6 a1).bind fun k2 =>
(zs_ald 6 (zt_lk T k2) a2).bind fun x3 =>
(gv_joins T M 0 a1 a2 x3).bind fun p4 =>
some (p4.1, p4.2))
else (some ((-1), M))
set_option maxHeartbeats 4000000 in
theorem kh_joins (D : zs_D) (W : cs_W) (P : Nat → Bool) (h0 : zs_AH) (c : Nat) (M : cs_S) (a1 : Int32) (a2 : Int32) : zs_Con D (cs_R W P h0 c) cs_bd zs_eI yX0_joins cX0_joins 3 (some .int) 424 [.ref (c + 0), .int a1, .int a2] M (gh_joins W.2.1 M a1 a2) := by
  unfold gh_joins
  refine zs_con (own := RX0) (nm := "joins") pl_X0 rfl rfl (Nat.le_of_ble_eq_true rfl) ?_
  refine zs_lv (lv' := [(0, .ref (c + 0)), (1, .int a1), (2, .int a2)]) rfl ?_
  refine zs_aload_n (pc := 0) 0 dX0_joins_0 rfl rfl ?_
  refine zs_iload_n (pc := 1) 1 dX0_joins_1 rfl rfl ?_
  refine zs_iload_n (pc := 2) 2 dX0_joins_2 rfl rfl ?_
  refine zs_callVrB (pc := 3) [.int a1, .int a2] [] (kh_areTwo D W P h0 c M a1 a2) wh_areTwo q1187 zc_X0 cs_rcv0 dX0_joins_3 rfl rfl (Nat.le_of_ble_eq_true rfl) (Nat.le_of_ble_eq_true rfl) (fun b1 => ?_)
  refine zs_if_f (pc := 6) (tgt := 36) dX0_joins_6 (by decide) ?_ ?_
  · refine zs_aload_n (pc := 9) 0 dX0_joins_9 rfl rfl ?_
    refine cs_getr (pc := 10) 0 0 7 (v := .ref (c + cs_va 0)) ⟨⟨by decide, by decide⟩, rfl⟩ zc_X0 ⟨rfl, rfl⟩ (by decide) rfl rfl q536 dX0_joins_10 ?_
    refine zs_aload_n (pc := 13) 0 dX0_joins_13 rfl rfl ?_
    refine cs_getr (pc := 14) 0 0 3 (v := .ref (zt_ad W.2.1 0)) ⟨⟨by decide, by decide⟩, rfl⟩ zc_X0 ⟨rfl, rfl⟩ (by decide) rfl rfl q532 dX0_joins_14 ?_
    refine zs_iload_n (pc := 17) 1 dX0_joins_17 rfl rfl ?_
    refine zs_iload_n (pc := 18) 2 dX0_joins_18 rfl rfl ?_
    refine zs_aload_n (pc := 19) 0 dX0_joins_19 rfl rfl ?_
    refine cs_getr (pc := 20) 0 0 3 (v := .ref (zt_ad W.2.1 0)) ⟨⟨by decide, by decide⟩, rfl⟩ zc_X0 ⟨rfl, rfl⟩ (by decide) rfl rfl q532 dX0_joins_20 ?_
    refine ct_like (pc := 23) q384 dX0_joins_23 ?_
    refine zs_iload_n (pc := 26) 1 dX0_joins_26 rfl rfl ?_
    refine ct_lkrow (pc := 27) dX0_joins_27 (fun k2 hk2 => ?_)
    refine zs_iload_n (pc := 28) 2 dX0_joins_28 rfl rfl ?_
    refine ct_lkald (pc := 29) hk2 dX0_joins_29 (fun x3 => ?_)
    refine zs_callVwI (pc := 30) [.ref (zt_ad W.2.1 0), .int a1, .int a2, .int x3] [] (kv_xjoins D W P h0 c M 0 (by omega) a1 a2 x3) wv_joins q1195 zc_X5 (cs_rcvv (by omega)) dX0_joins_30 rfl rfl (Nat.le_of_ble_eq_true rfl) (Nat.le_of_ble_eq_true rfl) (fun p4 => ?_)
    refine zs_goto (pc := 33) (tgt := 37) dX0_joins_33 (by decide) ?_
    exact zs_iret (pc := 37) dX0_joins_37 rfl rfl rfl
  · refine zs_iconst (pc := 36) (v := (-1)) dX0_joins_36 rfl ?_
    exact zs_iret (pc := 37) dX0_joins_37 rfl rfl rfl
theorem wh_isPlace : zs_mV RX0 yX0_isPlace cX0_isPlace 2 (some .boolean) 1 := ⟨q1205, qs34, q134, q1206, by decide, by decide +kernel⟩
def gh_isPlace (T : zt_T) (M : cs_S) (a1 : Int32) : Option (Bool) :=
(gh_isIn a1 0 ((M.1 (10 + 0) 5) - 1)).bind fun b1 =>
some b1
set_option maxHeartbeats 4000000 in
theorem kh_isPlace (D : zs_D) (W : cs_W) (P : Nat → Bool) (h0 : zs_AH) (c : Nat) (M : cs_S) (a1 : Int32) : zs_Con D (cs_R W P h0 c) cs_bd zs_eB yX0_isPlace cX0_isPlace 2 (some .boolean) 1 [.ref (c + 0), .int a1] M ((gh_isPlace W.2.1 M a1).map fun x => (x, M)) := by
  unfold gh_isPlace
  refine zs_conR (own := RX0) (nm := "isPlace") pl_X0 rfl rfl (Nat.le_of_ble_eq_true rfl) ?_
  refine zs_lv (lv' := [(0, .ref (c + 0)), (1, .int a1)]) rfl ?_
  refine zs_iload_n (pc := 0) 1 dX0_isPlace_0 rfl rfl ?_
  refine zs_iconst (pc := 1) (v := 0) dX0_isPlace_1 rfl ?_
  refine zs_aload_n (pc := 2) 0 dX0_isPlace_2 rfl rfl ?_
  refine cs_getr (pc := 3) 0 0 7 (v := .ref (c + cs_va 0)) ⟨⟨by decide, by decide⟩, rfl⟩ zc_X0 ⟨rfl, rfl⟩ (by decide) rfl rfl q536 dX0_isPlace_3 ?_
  refine cs_geti (pc := 6) (cs_va 0) (10 + 0) 5 (cs_pv (by omega)) zc_X5 (cs_vcl (by omega)) (by decide) (cs_vsc (by omega) 5 true (by decide)) q450 dX0_isPlace_6 ?_
  refine zs_iconst (pc := 9) (v := 1) dX0_isPlace_9 rfl ?_
  refine zs_isub (pc := 10) dX0_isPlace_10 ?_
  refine zs_callSrB (pc := 11) [.int a1, .int 0, .int ((M.1 (10 + 0) 5) - 1)] [] (kh_isIn D _ _ M a1 0 ((M.1 (10 + 0) 5) - 1)) wh_isIn q1129 dX0_isPlace_11 rfl rfl (Nat.le_of_ble_eq_true rfl) (Nat.le_of_ble_eq_true rfl) (fun b1 => ?_)
  exact zs_iret (pc := 14) dX0_isPlace_14 rfl rfl (zs_nb _)
theorem wh_at : zs_mV RX0 yX0_at cX0_at 2 (some .int) 1 := ⟨q1200, q1201, q134, q1202, by decide, by decide +kernel⟩
def gh_at (T : zt_T) (M : cs_S) (a1 : Int32) : Option (Int32) :=
(gh_isPlace T M a1).bind fun b1 =>
if b1 = true then ((zs_ald 6 (M.2 (10 + 0) 4) a1).bind fun x2 =>
some x2)
else (some (-1))
set_option maxHeartbeats 4000000 in
theorem kh_at (D : zs_D) (W : cs_W) (P : Nat → Bool) (h0 : zs_AH) (c : Nat) (M : cs_S) (a1 : Int32) : zs_Con D (cs_R W P h0 c) cs_bd zs_eI yX0_at cX0_at 2 (some .int) 2 [.ref (c + 0), .int a1] M ((gh_at W.2.1 M a1).map fun x => (x, M)) := by
  unfold gh_at
  refine zs_conR (own := RX0) (nm := "at") pl_X0 rfl rfl (Nat.le_of_ble_eq_true rfl) ?_
  refine zs_lv (lv' := [(0, .ref (c + 0)), (1, .int a1)]) rfl ?_
  refine zs_aload_n (pc := 0) 0 dX0_at_0 rfl rfl ?_
  refine zs_iload_n (pc := 1) 1 dX0_at_1 rfl rfl ?_
  refine zs_callVrB (pc := 2) [.int a1] [] (kh_isPlace D W P h0 c M a1) wh_isPlace q1203 zc_X0 cs_rcv0 dX0_at_2 rfl rfl (Nat.le_of_ble_eq_true rfl) (Nat.le_of_ble_eq_true rfl) (fun b1 => ?_)
  refine zs_if_f (pc := 5) (tgt := 20) dX0_at_5 (by decide) ?_ ?_
  · refine zs_aload_n (pc := 8) 0 dX0_at_8 rfl rfl ?_
    refine cs_getr (pc := 9) 0 0 7 (v := .ref (c + cs_va 0)) ⟨⟨by decide, by decide⟩, rfl⟩ zc_X0 ⟨rfl, rfl⟩ (by decide) rfl rfl q536 dX0_at_9 ?_
    refine cs_getr (pc := 12) (cs_va 0) (10 + 0) 4 (v := .ref (c + (cs_va 0 + 5))) (cs_pv (by omega)) zc_X5 (cs_vcl (by omega)) (by decide) (cs_vsc (by omega) 4 false (by decide)) (cs_vcv (by omega) 4 5 (by decide)) q448 dX0_at_12 ?_
    refine zs_iload_n (pc := 15) 1 dX0_at_15 rfl rfl ?_
    refine cs_iald (pc := 16) (cs_va 0 + 5) (10 + 0) 4 (cs_pva (by omega) 5 (by decide) 6 rfl) dX0_at_16 (fun x2 => ?_)
    refine zs_goto (pc := 17) (tgt := 21) dX0_at_17 (by decide) ?_
    exact zs_iret (pc := 21) dX0_at_21 rfl rfl rfl
  · refine zs_iconst (pc := 20) (v := (-1)) dX0_at_20 rfl ?_
    exact zs_iret (pc := 21) dX0_at_21 rfl rfl rfl
theorem wv_becomes : zs_mV RX5 yX5_becomes cX5_becomes 2 none 1 := ⟨q1217, q1218, q145, q1219, by decide, by decide +kernel⟩
def gv_becomes (T : zt_T) (M : cs_S) (i : Nat) (v1 : Nat) : Option (cs_S) :=
(some (gv_copies M v1 i 0)).bind fun M1 =>
(some (gv_copies M1 v1 i 1)).bind fun M2 =>
(some (gv_copies M2 v1 i 2)).bind fun M3 =>
(some (gv_copies M3 v1 i 3)).bind fun M4 =>
(some (gv_copies M4 v1 i 4)).bind fun M5 =>
(some (cs_sF M5 (10 + i) 5 (M5.1 (10 + v1) 5))).bind fun M6 =>
(some (cs_sF M6 (10 + i) 6 (M6.1 (10 + v1) 6))).bind fun M7 =>
(some (cs_sF M7 (10 + i) 7 (M7.1 (10 + v1) 7))).bind fun M8 =>
(some (cs_sF M8 (10 + i) 8 (M8.1 (10 + v1) 8))).bind fun M9 =>
some M9
set_option maxHeartbeats 4000000 in
theorem kv_xbecomes (D : zs_D) (W : cs_W) (P : Nat → Bool) (h0 : zs_AH) (c : Nat) (M : cs_S) (i : Nat) (hi : i < 45) (v1 : Nat) (hv1 : v1 < 45) : zs_Con D (cs_R W P h0 c) cs_bd zs_eV yX5_becomes cX5_becomes 2 none 2 [.ref (c + cs_va i), .ref (c + cs_va v1)] M ((gv_becomes W.2.1 M i v1).map fun x => ((), x)) := by
  unfold gv_becomes
  refine zs_conV (own := RX5) (nm := "becomes") pl_X5 rfl rfl (Nat.le_of_ble_eq_true rfl) ?_
  refine zs_lv (lv' := [(0, .ref (c + cs_va i)), (1, .ref (c + cs_va v1))]) rfl ?_
  refine zs_aload_n (pc := 0) 1 dX5_becomes_0 rfl rfl ?_
  refine cs_getr (pc := 1) (cs_va v1) (10 + v1) 0 (v := .ref (c + (cs_va v1 + 1))) (cs_pv (by omega)) zc_X5 (cs_vcl (by omega)) (by decide) (cs_vsc (by omega) 0 false (by decide)) (cs_vcv (by omega) 0 1 (by decide)) q439 dX5_becomes_1 ?_
  refine zs_aload_n (pc := 4) 0 dX5_becomes_4 rfl rfl ?_
  refine cs_getr (pc := 5) (cs_va i) (10 + i) 0 (v := .ref (c + (cs_va i + 1))) (cs_pv (by omega)) zc_X5 (cs_vcl (by omega)) (by decide) (cs_vsc (by omega) 0 false (by decide)) (cs_vcv (by omega) 0 1 (by decide)) q439 dX5_becomes_5 ?_
  refine zs_callSv (pc := 8) [.ref (c + (cs_va v1 + 1)), .ref (c + (cs_va i + 1))] [] (kl_copies (s := 1) (by omega) (by omega) (by decide) M) wv_copies q1220 dX5_becomes_8 rfl rfl (Nat.le_of_ble_eq_true rfl) (Nat.le_of_ble_eq_true rfl) (fun M1 => ?_)
  refine zs_aload_n (pc := 11) 1 dX5_becomes_11 rfl rfl ?_
  refine cs_getr (pc := 12) (cs_va v1) (10 + v1) 1 (v := .ref (c + (cs_va v1 + 2))) (cs_pv (by omega)) zc_X5 (cs_vcl (by omega)) (by decide) (cs_vsc (by omega) 1 false (by decide)) (cs_vcv (by omega) 1 2 (by decide)) q441 dX5_becomes_12 ?_
  refine zs_aload_n (pc := 15) 0 dX5_becomes_15 rfl rfl ?_
  refine cs_getr (pc := 16) (cs_va i) (10 + i) 1 (v := .ref (c + (cs_va i + 2))) (cs_pv (by omega)) zc_X5 (cs_vcl (by omega)) (by decide) (cs_vsc (by omega) 1 false (by decide)) (cs_vcv (by omega) 1 2 (by decide)) q441 dX5_becomes_16 ?_
  refine zs_callSv (pc := 19) [.ref (c + (cs_va v1 + 2)), .ref (c + (cs_va i + 2))] [] (kl_copies (s := 2) (by omega) (by omega) (by decide) M1) wv_copies q1220 dX5_becomes_19 rfl rfl (Nat.le_of_ble_eq_true rfl) (Nat.le_of_ble_eq_true rfl) (fun M2 => ?_)
  refine zs_aload_n (pc := 22) 1 dX5_becomes_22 rfl rfl ?_
  refine cs_getr (pc := 23) (cs_va v1) (10 + v1) 2 (v := .ref (c + (cs_va v1 + 3))) (cs_pv (by omega)) zc_X5 (cs_vcl (by omega)) (by decide) (cs_vsc (by omega) 2 false (by decide)) (cs_vcv (by omega) 2 3 (by decide)) q443 dX5_becomes_23 ?_
  refine zs_aload_n (pc := 26) 0 dX5_becomes_26 rfl rfl ?_
  refine cs_getr (pc := 27) (cs_va i) (10 + i) 2 (v := .ref (c + (cs_va i + 3))) (cs_pv (by omega)) zc_X5 (cs_vcl (by omega)) (by decide) (cs_vsc (by omega) 2 false (by decide)) (cs_vcv (by omega) 2 3 (by decide)) q443 dX5_becomes_27 ?_
  refine zs_callSv (pc := 30) [.ref (c + (cs_va v1 + 3)), .ref (c + (cs_va i + 3))] [] (kl_copies (s := 3) (by omega) (by omega) (by decide) M2) wv_copies q1220 dX5_becomes_30 rfl rfl (Nat.le_of_ble_eq_true rfl) (Nat.le_of_ble_eq_true rfl) (fun M3 => ?_)
  refine zs_aload_n (pc := 33) 1 dX5_becomes_33 rfl rfl ?_
  refine cs_getr (pc := 34) (cs_va v1) (10 + v1) 3 (v := .ref (c + (cs_va v1 + 4))) (cs_pv (by omega)) zc_X5 (cs_vcl (by omega)) (by decide) (cs_vsc (by omega) 3 false (by decide)) (cs_vcv (by omega) 3 4 (by decide)) q445 dX5_becomes_34 ?_
  refine zs_aload_n (pc := 37) 0 dX5_becomes_37 rfl rfl ?_
  refine cs_getr (pc := 38) (cs_va i) (10 + i) 3 (v := .ref (c + (cs_va i + 4))) (cs_pv (by omega)) zc_X5 (cs_vcl (by omega)) (by decide) (cs_vsc (by omega) 3 false (by decide)) (cs_vcv (by omega) 3 4 (by decide)) q445 dX5_becomes_38 ?_
  refine zs_callSv (pc := 41) [.ref (c + (cs_va v1 + 4)), .ref (c + (cs_va i + 4))] [] (kl_copies (s := 4) (by omega) (by omega) (by decide) M3) wv_copies q1220 dX5_becomes_41 rfl rfl (Nat.le_of_ble_eq_true rfl) (Nat.le_of_ble_eq_true rfl) (fun M4 => ?_)
  refine zs_aload_n (pc := 44) 1 dX5_becomes_44 rfl rfl ?_
  refine cs_getr (pc := 45) (cs_va v1) (10 + v1) 4 (v := .ref (c + (cs_va v1 + 5))) (cs_pv (by omega)) zc_X5 (cs_vcl (by omega)) (by decide) (cs_vsc (by omega) 4 false (by decide)) (cs_vcv (by omega) 4 5 (by decide)) q447 dX5_becomes_45 ?_
  refine zs_aload_n (pc := 48) 0 dX5_becomes_48 rfl rfl ?_
  refine cs_getr (pc := 49) (cs_va i) (10 + i) 4 (v := .ref (c + (cs_va i + 5))) (cs_pv (by omega)) zc_X5 (cs_vcl (by omega)) (by decide) (cs_vsc (by omega) 4 false (by decide)) (cs_vcv (by omega) 4 5 (by decide)) q447 dX5_becomes_49 ?_
  refine zs_callSv (pc := 52) [.ref (c + (cs_va v1 + 5)), .ref (c + (cs_va i + 5))] [] (kl_copies (s := 5) (by omega) (by omega) (by decide) M4) wv_copies q1220 dX5_becomes_52 rfl rfl (Nat.le_of_ble_eq_true rfl) (Nat.le_of_ble_eq_true rfl) (fun M5 => ?_)
  refine zs_aload_n (pc := 55) 0 dX5_becomes_55 rfl rfl ?_
  refine zs_aload_n (pc := 56) 1 dX5_becomes_56 rfl rfl ?_
  refine cs_geti (pc := 57) (cs_va v1) (10 + v1) 5 (cs_pv (by omega)) zc_X5 (cs_vcl (by omega)) (by decide) (cs_vsc (by omega) 5 true (by decide)) q449 dX5_becomes_57 ?_
  refine cs_puti (pc := 60) (cs_va i) (10 + i) 5 (cs_pv (by omega)) zc_X5 (cs_vcl (by omega)) (by decide) (cs_vsc (by omega) 5 true (by decide)) q449 rfl rfl rfl dX5_becomes_60 (fun M6 => ?_)
  refine zs_aload_n (pc := 63) 0 dX5_becomes_63 rfl rfl ?_
  refine zs_aload_n (pc := 64) 1 dX5_becomes_64 rfl rfl ?_
  refine cs_geti (pc := 65) (cs_va v1) (10 + v1) 6 (cs_pv (by omega)) zc_X5 (cs_vcl (by omega)) (by decide) (cs_vsc (by omega) 6 true (by decide)) q452 dX5_becomes_65 ?_
  refine cs_puti (pc := 68) (cs_va i) (10 + i) 6 (cs_pv (by omega)) zc_X5 (cs_vcl (by omega)) (by decide) (cs_vsc (by omega) 6 true (by decide)) q452 rfl rfl rfl dX5_becomes_68 (fun M7 => ?_)
  refine zs_aload_n (pc := 71) 0 dX5_becomes_71 rfl rfl ?_
  refine zs_aload_n (pc := 72) 1 dX5_becomes_72 rfl rfl ?_
  refine cs_geti (pc := 73) (cs_va v1) (10 + v1) 7 (cs_pv (by omega)) zc_X5 (cs_vcl (by omega)) (by decide) (cs_vsc (by omega) 7 true (by decide)) q454 dX5_becomes_73 ?_
  refine cs_puti (pc := 76) (cs_va i) (10 + i) 7 (cs_pv (by omega)) zc_X5 (cs_vcl (by omega)) (by decide) (cs_vsc (by omega) 7 true (by decide)) q454 rfl rfl rfl dX5_becomes_76 (fun M8 => ?_)
  refine zs_aload_n (pc := 79) 0 dX5_becomes_79 rfl rfl ?_
  refine zs_aload_n (pc := 80) 1 dX5_becomes_80 rfl rfl ?_
  refine cs_geti (pc := 81) (cs_va v1) (10 + v1) 8 (cs_pv (by omega)) zc_X5 (cs_vcl (by omega)) (by decide) (cs_vsc (by omega) 8 true (by decide)) q457 dX5_becomes_81 ?_
  refine cs_puti (pc := 84) (cs_va i) (10 + i) 8 (cs_pv (by omega)) zc_X5 (cs_vcl (by omega)) (by decide) (cs_vsc (by omega) 8 true (by decide)) q457 rfl rfl rfl dX5_becomes_84 (fun M9 => ?_)
  exact zs_vret (pc := 87) dX5_becomes_87 rfl rfl
theorem wh_keeps : zs_mV RX0 yX0_keeps cX0_keeps 1 none 0 := ⟨q1214, qs35, q134, q1215, by decide, by decide +kernel⟩
def gh_keeps (T : zt_T) (M : cs_S) : Option (cs_S) :=
(zs_ix 40 (M.1 0 6)).bind fun k1 =>
(gv_becomes T M (2 + k1) 0).bind fun M2 =>
(some (cs_sF M2 0 6 (zs_rem ((M2.1 0 6) + 1) 40))).bind fun M3 =>
(some (cs_sF M3 0 5 (zs_min 40 ((M3.1 0 5) + 1)))).bind fun M4 =>
some M4
set_option maxHeartbeats 4000000 in
theorem kh_keeps (D : zs_D) (W : cs_W) (P : Nat → Bool) (h0 : zs_AH) (c : Nat) (M : cs_S) : zs_Con D (cs_R W P h0 c) cs_bd zs_eV yX0_keeps cX0_keeps 1 none 3 [.ref (c + 0)] M ((gh_keeps W.2.1 M).map fun x => ((), x)) := by
  unfold gh_keeps
  refine zs_conV (own := RX0) (nm := "keeps") pl_X0 rfl rfl (Nat.le_of_ble_eq_true rfl) ?_
  refine zs_lv (lv' := [(0, .ref (c + 0))]) rfl ?_
  refine zs_aload_n (pc := 0) 0 dX0_keeps_0 rfl rfl ?_
  refine cs_getr (pc := 1) 0 0 9 (v := .ref (c + 40)) ⟨⟨by decide, by decide⟩, rfl⟩ zc_X0 ⟨rfl, rfl⟩ (by decide) rfl rfl q538 dX0_keeps_1 ?_
  refine zs_aload_n (pc := 4) 0 dX0_keeps_4 rfl rfl ?_
  refine cs_geti (pc := 5) 0 0 6 ⟨⟨by decide, by decide⟩, rfl⟩ zc_X0 ⟨rfl, rfl⟩ (by decide) rfl q535 dX0_keeps_5 ?_
  refine cs_past (pc := 8) dX0_keeps_8 (fun k1 hk1 => ?_)
  refine zs_aload_n (pc := 9) 0 dX0_keeps_9 rfl rfl ?_
  refine cs_getr (pc := 10) 0 0 7 (v := .ref (c + cs_va 0)) ⟨⟨by decide, by decide⟩, rfl⟩ zc_X0 ⟨rfl, rfl⟩ (by decide) rfl rfl q536 dX0_keeps_10 ?_
  refine zs_callVv (pc := 13) [.ref (c + cs_va 0)] [] (kv_xbecomes D W P h0 c M (2 + k1) (by omega) 0 (by omega)) wv_becomes q1216 zc_X5 (cs_rcvv (by omega)) dX0_keeps_13 rfl rfl (Nat.le_of_ble_eq_true rfl) (Nat.le_of_ble_eq_true rfl) (fun M2 => ?_)
  refine zs_aload_n (pc := 16) 0 dX0_keeps_16 rfl rfl ?_
  refine zs_aload_n (pc := 17) 0 dX0_keeps_17 rfl rfl ?_
  refine cs_geti (pc := 18) 0 0 6 ⟨⟨by decide, by decide⟩, rfl⟩ zc_X0 ⟨rfl, rfl⟩ (by decide) rfl q535 dX0_keeps_18 ?_
  refine zs_iconst (pc := 21) (v := 1) dX0_keeps_21 rfl ?_
  refine zs_iadd (pc := 22) dX0_keeps_22 ?_
  refine zs_bipush (pc := 23) (v := 40) dX0_keeps_23 (by decide) ?_
  refine zs_iremK (pc := 25) dX0_keeps_25 (by decide) ?_
  refine cs_puti (pc := 26) 0 0 6 ⟨⟨by decide, by decide⟩, rfl⟩ zc_X0 ⟨rfl, rfl⟩ (by decide) rfl q535 rfl rfl rfl dX0_keeps_26 (fun M3 => ?_)
  refine zs_aload_n (pc := 29) 0 dX0_keeps_29 rfl rfl ?_
  refine zs_bipush (pc := 30) (v := 40) dX0_keeps_30 (by decide) ?_
  refine zs_aload_n (pc := 32) 0 dX0_keeps_32 rfl rfl ?_
  refine cs_geti (pc := 33) 0 0 5 ⟨⟨by decide, by decide⟩, rfl⟩ zc_X0 ⟨rfl, rfl⟩ (by decide) rfl q534 dX0_keeps_33 ?_
  refine zs_iconst (pc := 36) (v := 1) dX0_keeps_36 rfl ?_
  refine zs_iadd (pc := 37) dX0_keeps_37 ?_
  refine zs_mmin (pc := 38) q1224 dX0_keeps_38 (Nat.le_of_ble_eq_true rfl) (Nat.le_of_ble_eq_true rfl) ?_
  refine cs_puti (pc := 41) 0 0 5 ⟨⟨by decide, by decide⟩, rfl⟩ zc_X0 ⟨rfl, rfl⟩ (by decide) rfl q534 rfl rfl rfl dX0_keeps_41 (fun M4 => ?_)
  exact zs_vret (pc := 44) dX0_keeps_44 rfl rfl
theorem wv_splices : zs_mV RX5 yX5_splices cX5_splices 3 none 2 := ⟨q1226, q1227, q145, q1228, by decide, by decide +kernel⟩
def gv_splices (T : zt_T) (M : cs_S) (i : Nat) (a2 : Int32) : Option (cs_S) :=
(zs_ald 6 (M.2 (10 + i) 0) a2).bind fun x1 =>
(zs_ast 6 a2 (cs_sA M (10 + i) 1 a2 x1)).bind fun M2 =>
(zs_ix (zt_n T) a2).bind fun k3 =>
(zs_ast 6 a2 (cs_sA M2 (10 + i) 2 a2 (zt_hi T k3 2))).bind fun M4 =>
(zs_ast 6 a2 (cs_sA M4 (10 + i) 0 a2 0)).bind fun M5 =>
(zs_ald 6 (M5.2 (10 + i) 3) a2).bind fun x6 =>
(zs_ast 6 a2 (cs_sA M5 (10 + i) 3 a2 (x6 + 1))).bind fun M7 =>
(zs_ast 6 (M7.1 (10 + i) 5) (cs_sA M7 (10 + i) 4 (M7.1 (10 + i) 5) a2)).bind fun M8 =>
(some (cs_sF M8 (10 + i) 5 ((M8.1 (10 + i) 5) + 1))).bind fun M9 =>
some M9
set_option maxHeartbeats 4000000 in
theorem kv_xsplices (D : zs_D) (W : cs_W) (P : Nat → Bool) (h0 : zs_AH) (c : Nat) (M : cs_S) (i : Nat) (hi : i < 45) (a2 : Int32) : zs_Con D (cs_R W P h0 c) cs_bd zs_eV yX5_splices cX5_splices 3 none 4 [.ref (c + cs_va i), .ref (zt_ad W.2.1 0), .int a2] M ((gv_splices W.2.1 M i a2).map fun x => ((), x)) := by
  unfold gv_splices
  refine zs_conV (own := RX5) (nm := "splices") pl_X5 rfl rfl (Nat.le_of_ble_eq_true rfl) ?_
  refine zs_lv (lv' := [(0, .ref (c + cs_va i)), (1, .ref (zt_ad W.2.1 0)), (2, .int a2)]) rfl ?_
  refine zs_aload_n (pc := 0) 0 dX5_splices_0 rfl rfl ?_
  refine cs_getr (pc := 1) (cs_va i) (10 + i) 1 (v := .ref (c + (cs_va i + 2))) (cs_pv (by omega)) zc_X5 (cs_vcl (by omega)) (by decide) (cs_vsc (by omega) 1 false (by decide)) (cs_vcv (by omega) 1 2 (by decide)) q441 dX5_splices_1 ?_
  refine zs_iload_n (pc := 4) 2 dX5_splices_4 rfl rfl ?_
  refine zs_aload_n (pc := 5) 0 dX5_splices_5 rfl rfl ?_
  refine cs_getr (pc := 6) (cs_va i) (10 + i) 0 (v := .ref (c + (cs_va i + 1))) (cs_pv (by omega)) zc_X5 (cs_vcl (by omega)) (by decide) (cs_vsc (by omega) 0 false (by decide)) (cs_vcv (by omega) 0 1 (by decide)) q439 dX5_splices_6 ?_
  refine zs_iload_n (pc := 9) 2 dX5_splices_9 rfl rfl ?_
  refine cs_iald (pc := 10) (cs_va i + 1) (10 + i) 0 (cs_pva (by omega) 1 (by decide) 6 rfl) dX5_splices_10 (fun x1 => ?_)
  refine cs_iast (pc := 11) (cs_va i + 2) (10 + i) 1 (cs_pva (by omega) 2 (by decide) 6 rfl) dX5_splices_11 (fun M2 => ?_)
  refine zs_aload_n (pc := 12) 0 dX5_splices_12 rfl rfl ?_
  refine cs_getr (pc := 13) (cs_va i) (10 + i) 2 (v := .ref (c + (cs_va i + 3))) (cs_pv (by omega)) zc_X5 (cs_vcl (by omega)) (by decide) (cs_vsc (by omega) 2 false (by decide)) (cs_vcv (by omega) 2 3 (by decide)) q443 dX5_splices_13 ?_
  refine zs_iload_n (pc := 16) 2 dX5_splices_16 rfl rfl ?_
  refine zs_aload_n (pc := 17) 1 dX5_splices_17 rfl rfl ?_
  refine ct_houses (pc := 18) q377 dX5_splices_18 ?_
  refine zs_iload_n (pc := 21) 2 dX5_splices_21 rfl rfl ?_
  refine ct_get (pc := 22) q514 dX5_splices_22 (Nat.le_of_ble_eq_true rfl) (Nat.le_of_ble_eq_true rfl) (fun k3 hk3 => ?_)
  refine ct_cast (pc := 25) hk3 q528 dX5_splices_25 ?_
  refine ct_strong (pc := 28) hk3 q1043 dX5_splices_28 ?_
  refine cs_iast (pc := 31) (cs_va i + 3) (10 + i) 2 (cs_pva (by omega) 3 (by decide) 6 rfl) dX5_splices_31 (fun M4 => ?_)
  refine zs_aload_n (pc := 32) 0 dX5_splices_32 rfl rfl ?_
  refine cs_getr (pc := 33) (cs_va i) (10 + i) 0 (v := .ref (c + (cs_va i + 1))) (cs_pv (by omega)) zc_X5 (cs_vcl (by omega)) (by decide) (cs_vsc (by omega) 0 false (by decide)) (cs_vcv (by omega) 0 1 (by decide)) q439 dX5_splices_33 ?_
  refine zs_iload_n (pc := 36) 2 dX5_splices_36 rfl rfl ?_
  refine zs_iconst (pc := 37) (v := 0) dX5_splices_37 rfl ?_
  refine cs_iast (pc := 38) (cs_va i + 1) (10 + i) 0 (cs_pva (by omega) 1 (by decide) 6 rfl) dX5_splices_38 (fun M5 => ?_)
  refine zs_aload_n (pc := 39) 0 dX5_splices_39 rfl rfl ?_
  refine cs_getr (pc := 40) (cs_va i) (10 + i) 3 (v := .ref (c + (cs_va i + 4))) (cs_pv (by omega)) zc_X5 (cs_vcl (by omega)) (by decide) (cs_vsc (by omega) 3 false (by decide)) (cs_vcv (by omega) 3 4 (by decide)) q445 dX5_splices_40 ?_
  refine zs_iload_n (pc := 43) 2 dX5_splices_43 rfl rfl ?_
  refine zs_dup2 (pc := 44) dX5_splices_44 rfl rfl ?_
  refine cs_iald (pc := 45) (cs_va i + 4) (10 + i) 3 (cs_pva (by omega) 4 (by decide) 6 rfl) dX5_splices_45 (fun x6 => ?_)
  refine zs_iconst (pc := 46) (v := 1) dX5_splices_46 rfl ?_
  refine zs_iadd (pc := 47) dX5_splices_47 ?_
  refine cs_iast (pc := 48) (cs_va i + 4) (10 + i) 3 (cs_pva (by omega) 4 (by decide) 6 rfl) dX5_splices_48 (fun M7 => ?_)
  refine zs_aload_n (pc := 49) 0 dX5_splices_49 rfl rfl ?_
  refine cs_getr (pc := 50) (cs_va i) (10 + i) 4 (v := .ref (c + (cs_va i + 5))) (cs_pv (by omega)) zc_X5 (cs_vcl (by omega)) (by decide) (cs_vsc (by omega) 4 false (by decide)) (cs_vcv (by omega) 4 5 (by decide)) q447 dX5_splices_50 ?_
  refine zs_aload_n (pc := 53) 0 dX5_splices_53 rfl rfl ?_
  refine cs_geti (pc := 54) (cs_va i) (10 + i) 5 (cs_pv (by omega)) zc_X5 (cs_vcl (by omega)) (by decide) (cs_vsc (by omega) 5 true (by decide)) q449 dX5_splices_54 ?_
  refine zs_iload_n (pc := 57) 2 dX5_splices_57 rfl rfl ?_
  refine cs_iast (pc := 58) (cs_va i + 5) (10 + i) 4 (cs_pva (by omega) 5 (by decide) 6 rfl) dX5_splices_58 (fun M8 => ?_)
  refine zs_aload_n (pc := 59) 0 dX5_splices_59 rfl rfl ?_
  refine zs_dup (pc := 60) dX5_splices_60 rfl ?_
  refine cs_geti (pc := 61) (cs_va i) (10 + i) 5 (cs_pv (by omega)) zc_X5 (cs_vcl (by omega)) (by decide) (cs_vsc (by omega) 5 true (by decide)) q449 dX5_splices_61 ?_
  refine zs_iconst (pc := 64) (v := 1) dX5_splices_64 rfl ?_
  refine zs_iadd (pc := 65) dX5_splices_65 ?_
  refine cs_puti (pc := 66) (cs_va i) (10 + i) 5 (cs_pv (by omega)) zc_X5 (cs_vcl (by omega)) (by decide) (cs_vsc (by omega) 5 true (by decide)) q449 rfl rfl rfl dX5_splices_66 (fun M9 => ?_)
  exact zs_vret (pc := 69) dX5_splices_69 rfl rfl
theorem wv_ropeLong : zs_mV RX5 yX5_ropeLong cX5_ropeLong 3 (some .int) 0 := ⟨q1230, q1231, q145, q1232, by decide, by decide +kernel⟩
def gv_ropeLong_L4 (M : cs_S) (i : Nat) : (Int32 × Int32) → Option ((Int32 × Int32) ⊕ (Int32)) := fun t4 =>
if t4.2 < (M.1 (10 + i) 5) then ((zs_ald 6 (M.2 (10 + i) 4) t4.2).bind fun x1 =>
(zs_ald 6 (M.2 (10 + i) 1) x1).bind fun x2 =>
(some (t4.1 + x2)).bind fun x3 =>
some (Sum.inl (x3, (t4.2 + 1))))
else (some (Sum.inr t4.1))
def gv_ropeLong (T : zt_T) (M : cs_S) (i : Nat) : Option (Int32) :=
(zs_loop 5000 (gv_ropeLong_L4 M i) (0, 0)).bind fun z => some z
set_option maxHeartbeats 4000000 in
theorem kv_xropeLong (D : zs_D) (W : cs_W) (P : Nat → Bool) (h0 : zs_AH) (c : Nat) (M : cs_S) (i : Nat) (hi : i < 45) : zs_Con D (cs_R W P h0 c) cs_bd zs_eI yX5_ropeLong cX5_ropeLong 3 (some .int) 0 [.ref (c + cs_va i)] M ((gv_ropeLong W.2.1 M i).map fun x => (x, M)) := by
  unfold gv_ropeLong
  refine zs_conR (own := RX5) (nm := "ropeLong") pl_X5 rfl rfl (Nat.le_of_ble_eq_true rfl) ?_
  refine zs_lv (lv' := [(0, .ref (c + cs_va i))]) rfl ?_
  refine zs_iconst (pc := 0) (v := 0) dX5_ropeLong_0 rfl ?_
  refine zs_istore_n (pc := 1) (lv' := [(0, .ref (c + cs_va i)), (1, .int 0)]) [1, 0] dX5_ropeLong_1 rfl (by decide) rfl ?_
  refine zs_iconst (pc := 2) (v := 0) dX5_ropeLong_2 rfl ?_
  refine zs_istore_n (pc := 3) (lv' := [(0, .ref (c + cs_va i)), (1, .int 0), (2, .int 0)]) [1, 2, 0] dX5_ropeLong_3 rfl (by decide) rfl ?_
  refine zs_whileX (pc := 4) (fun (t4 : Int32 × Int32) => M) (fun (t4 : Int32 × Int32) => [(0, .ref (c + cs_va i)), (1, .int t4.1), (2, .int t4.2)]) 5000 (0, 0) (fun X4 hL4 hR4 t4 => ?_)
  unfold gv_ropeLong_L4
  refine zs_iload_n (pc := 4) 2 dX5_ropeLong_4 rfl rfl ?_
  refine zs_aload_n (pc := 5) 0 dX5_ropeLong_5 rfl rfl ?_
  refine cs_geti (pc := 6) (cs_va i) (10 + i) 5 (cs_pv (by omega)) zc_X5 (cs_vcl (by omega)) (by decide) (cs_vsc (by omega) 5 true (by decide)) q449 dX5_ropeLong_6 ?_
  refine zs_icmp_ge (pc := 9) (tgt := 32) dX5_ropeLong_9 (by decide) ?_ ?_
  · refine zs_iload_n (pc := 12) 1 dX5_ropeLong_12 rfl rfl ?_
    refine zs_aload_n (pc := 13) 0 dX5_ropeLong_13 rfl rfl ?_
    refine cs_getr (pc := 14) (cs_va i) (10 + i) 1 (v := .ref (c + (cs_va i + 2))) (cs_pv (by omega)) zc_X5 (cs_vcl (by omega)) (by decide) (cs_vsc (by omega) 1 false (by decide)) (cs_vcv (by omega) 1 2 (by decide)) q441 dX5_ropeLong_14 ?_
    refine zs_aload_n (pc := 17) 0 dX5_ropeLong_17 rfl rfl ?_
    refine cs_getr (pc := 18) (cs_va i) (10 + i) 4 (v := .ref (c + (cs_va i + 5))) (cs_pv (by omega)) zc_X5 (cs_vcl (by omega)) (by decide) (cs_vsc (by omega) 4 false (by decide)) (cs_vcv (by omega) 4 5 (by decide)) q447 dX5_ropeLong_18 ?_
    refine zs_iload_n (pc := 21) 2 dX5_ropeLong_21 rfl rfl ?_
    refine cs_iald (pc := 22) (cs_va i + 5) (10 + i) 4 (cs_pva (by omega) 5 (by decide) 6 rfl) dX5_ropeLong_22 (fun x1 => ?_)
    refine cs_iald (pc := 23) (cs_va i + 2) (10 + i) 1 (cs_pva (by omega) 2 (by decide) 6 rfl) dX5_ropeLong_23 (fun x2 => ?_)
    refine zs_iadd (pc := 24) dX5_ropeLong_24 ?_
    refine zs_nm (fun x3 => ?_)
    refine zs_istore_n (pc := 25) (lv' := [(0, .ref (c + cs_va i)), (1, .int x3), (2, .int t4.2)]) [1, 0, 2] dX5_ropeLong_25 rfl (by decide) rfl ?_
    refine zs_iinc (pc := 26) (lv' := [(0, .ref (c + cs_va i)), (1, .int x3), (2, .int (t4.2 + 1))]) 2 [1, 2, 0] dX5_ropeLong_26 rfl rfl (by decide) rfl ?_
    refine zs_goto (pc := 29) (tgt := 4) dX5_ropeLong_29 (by decide) ?_
    exact hL4 (x3, (t4.2 + 1))
  · refine zs_iload_n (pc := 32) 1 dX5_ropeLong_32 rfl rfl ?_
    exact zs_iret (pc := 33) dX5_ropeLong_33 ((hR4 _).trans rfl) rfl rfl
theorem wh_splice : zs_mV RX0 yX0_splice cX0_splice 2 (some .int) 1 := ⟨q1208, q1209, q134, q1210, by decide, by decide +kernel⟩
def gh_splice (T : zt_T) (M : cs_S) (a1 : Int32) : Option (Int32 × cs_S) :=
(gh_isHouse T M a1).bind fun b1 =>
if b1 = true then ((gv_has T M 0 a1).bind fun b2 =>
if b2 = true then (some ((-1), M))
else ((zs_ald 6 (M.2 (10 + 0) 0) a1).bind fun x3 =>
if x3 = 0 then (some ((-1), M))
else ((gh_keeps T M).bind fun M4 =>
(gv_splices T M4 0 a1).bind fun M5 =>
(gv_ropeLong T M5 0).bind fun x6 =>
some (x6, M5))))
else (some ((-1), M))
set_option maxHeartbeats 4000000 in
theorem kh_splice (D : zs_D) (W : cs_W) (P : Nat → Bool) (h0 : zs_AH) (c : Nat) (M : cs_S) (a1 : Int32) : zs_Con D (cs_R W P h0 c) cs_bd zs_eI yX0_splice cX0_splice 2 (some .int) 5 [.ref (c + 0), .int a1] M (gh_splice W.2.1 M a1) := by
  unfold gh_splice
  refine zs_con (own := RX0) (nm := "splice") pl_X0 rfl rfl (Nat.le_of_ble_eq_true rfl) ?_
  refine zs_lv (lv' := [(0, .ref (c + 0)), (1, .int a1)]) rfl ?_
  refine zs_aload_n (pc := 0) 0 dX0_splice_0 rfl rfl ?_
  refine zs_iload_n (pc := 1) 1 dX0_splice_1 rfl rfl ?_
  refine zs_callVrB (pc := 2) [.int a1] [] (kh_isHouse D W P h0 c M a1) wh_isHouse q1120 zc_X0 cs_rcv0 dX0_splice_2 rfl rfl (Nat.le_of_ble_eq_true rfl) (Nat.le_of_ble_eq_true rfl) (fun b1 => ?_)
  refine zs_if_f (pc := 5) (tgt := 31) dX0_splice_5 (by decide) ?_ ?_
  · refine zs_aload_n (pc := 8) 0 dX0_splice_8 rfl rfl ?_
    refine cs_getr (pc := 9) 0 0 7 (v := .ref (c + cs_va 0)) ⟨⟨by decide, by decide⟩, rfl⟩ zc_X0 ⟨rfl, rfl⟩ (by decide) rfl rfl q536 dX0_splice_9 ?_
    refine zs_iload_n (pc := 12) 1 dX0_splice_12 rfl rfl ?_
    refine zs_callVrB (pc := 13) [.int a1] [] (kv_xhas D W P h0 c M 0 (by omega) a1) wv_has q1211 zc_X5 (cs_rcvv (by omega)) dX0_splice_13 rfl rfl (Nat.le_of_ble_eq_true rfl) (Nat.le_of_ble_eq_true rfl) (fun b2 => ?_)
    refine zs_if_t (pc := 16) (tgt := 31) dX0_splice_16 (by decide) ?_ ?_
    · refine zs_iconst (pc := 31) (v := (-1)) dX0_splice_31 rfl ?_
      exact zs_iret (pc := 32) dX0_splice_32 rfl rfl rfl
    · refine zs_aload_n (pc := 19) 0 dX0_splice_19 rfl rfl ?_
      refine cs_getr (pc := 20) 0 0 7 (v := .ref (c + cs_va 0)) ⟨⟨by decide, by decide⟩, rfl⟩ zc_X0 ⟨rfl, rfl⟩ (by decide) rfl rfl q536 dX0_splice_20 ?_
      refine cs_getr (pc := 23) (cs_va 0) (10 + 0) 0 (v := .ref (c + (cs_va 0 + 1))) (cs_pv (by omega)) zc_X5 (cs_vcl (by omega)) (by decide) (cs_vsc (by omega) 0 false (by decide)) (cs_vcv (by omega) 0 1 (by decide)) q440 dX0_splice_23 ?_
      refine zs_iload_n (pc := 26) 1 dX0_splice_26 rfl rfl ?_
      refine cs_iald (pc := 27) (cs_va 0 + 1) (10 + 0) 0 (cs_pva (by omega) 1 (by decide) 6 rfl) dX0_splice_27 (fun x3 => ?_)
      refine zs_if_ne (pc := 28) (tgt := 33) dX0_splice_28 (by decide) ?_ ?_
      · refine zs_iconst (pc := 31) (v := (-1)) dX0_splice_31 rfl ?_
        exact zs_iret (pc := 32) dX0_splice_32 rfl rfl rfl
      · refine zs_aload_n (pc := 33) 0 dX0_splice_33 rfl rfl ?_
        refine zs_callVv (pc := 34) [] [] (kh_keeps D W P h0 c M) wh_keeps q1212 zc_X0 cs_rcv0 dX0_splice_34 rfl rfl (Nat.le_of_ble_eq_true rfl) (Nat.le_of_ble_eq_true rfl) (fun M4 => ?_)
        refine zs_aload_n (pc := 37) 0 dX0_splice_37 rfl rfl ?_
        refine cs_getr (pc := 38) 0 0 7 (v := .ref (c + cs_va 0)) ⟨⟨by decide, by decide⟩, rfl⟩ zc_X0 ⟨rfl, rfl⟩ (by decide) rfl rfl q536 dX0_splice_38 ?_
        refine zs_aload_n (pc := 41) 0 dX0_splice_41 rfl rfl ?_
        refine cs_getr (pc := 42) 0 0 3 (v := .ref (zt_ad W.2.1 0)) ⟨⟨by decide, by decide⟩, rfl⟩ zc_X0 ⟨rfl, rfl⟩ (by decide) rfl rfl q532 dX0_splice_42 ?_
        refine zs_iload_n (pc := 45) 1 dX0_splice_45 rfl rfl ?_
        refine zs_callVv (pc := 46) [.ref (zt_ad W.2.1 0), .int a1] [] (kv_xsplices D W P h0 c M4 0 (by omega) a1) wv_splices q1225 zc_X5 (cs_rcvv (by omega)) dX0_splice_46 rfl rfl (Nat.le_of_ble_eq_true rfl) (Nat.le_of_ble_eq_true rfl) (fun M5 => ?_)
        refine zs_aload_n (pc := 49) 0 dX0_splice_49 rfl rfl ?_
        refine cs_getr (pc := 50) 0 0 7 (v := .ref (c + cs_va 0)) ⟨⟨by decide, by decide⟩, rfl⟩ zc_X0 ⟨rfl, rfl⟩ (by decide) rfl rfl q536 dX0_splice_50 ?_
        refine zs_callVrI (pc := 53) [] [] (kv_xropeLong D W P h0 c M5 0 (by omega)) wv_ropeLong q1229 zc_X5 (cs_rcvv (by omega)) dX0_splice_53 rfl rfl (Nat.le_of_ble_eq_true rfl) (Nat.le_of_ble_eq_true rfl) (fun x6 => ?_)
        exact zs_iret (pc := 56) dX0_splice_56 rfl rfl rfl
  · refine zs_iconst (pc := 31) (v := (-1)) dX0_splice_31 rfl ?_
    exact zs_iret (pc := 32) dX0_splice_32 rfl rfl rfl
theorem wv_loses : zs_mV RX5 yX5_loses cX5_loses 2 none 1 := ⟨q1238, q1239, q145, q1240, by decide, by decide +kernel⟩
def gv_loses_L0 (a1 : Int32) (i : Nat) : (cs_S) → Option ((cs_S) ⊕ (cs_S)) := fun t0 =>
if a1 < (t0.1 (10 + i) 5) then ((some (cs_sF t0 (10 + i) 5 ((t0.1 (10 + i) 5) - 1))).bind fun M1 =>
(zs_ald 6 (M1.2 (10 + i) 4) (M1.1 (10 + i) 5)).bind fun x2 =>
(zs_ast 6 x2 (cs_sA M1 (10 + i) 1 x2 0)).bind fun M3 =>
(zs_ald 6 (M3.2 (10 + i) 4) (M3.1 (10 + i) 5)).bind fun x4 =>
(zs_ast 6 x4 (cs_sA M3 (10 + i) 2 x4 0)).bind fun M5 =>
some (Sum.inl M5))
else (some (Sum.inr t0))
def gv_loses (T : zt_T) (M : cs_S) (i : Nat) (a1 : Int32) : Option (cs_S) :=
(zs_loop 5000 (gv_loses_L0 a1 i) M).bind fun z => some z
set_option maxHeartbeats 4000000 in
theorem kv_xloses (D : zs_D) (W : cs_W) (P : Nat → Bool) (h0 : zs_AH) (c : Nat) (M : cs_S) (i : Nat) (hi : i < 45) (a1 : Int32) : zs_Con D (cs_R W P h0 c) cs_bd zs_eV yX5_loses cX5_loses 2 none 0 [.ref (c + cs_va i), .int a1] M ((gv_loses W.2.1 M i a1).map fun x => ((), x)) := by
  unfold gv_loses
  refine zs_conV (own := RX5) (nm := "loses") pl_X5 rfl rfl (Nat.le_of_ble_eq_true rfl) ?_
  refine zs_lv (lv' := [(0, .ref (c + cs_va i)), (1, .int a1)]) rfl ?_
  refine zs_whileX (pc := 0) (fun (t0 : cs_S) => t0) (fun (t0 : cs_S) => [(0, .ref (c + cs_va i)), (1, .int a1)]) 5000 M (fun X0 hL0 hR0 t0 => ?_)
  unfold gv_loses_L0
  refine zs_aload_n (pc := 0) 0 dX5_loses_0 rfl rfl ?_
  refine cs_geti (pc := 1) (cs_va i) (10 + i) 5 (cs_pv (by omega)) zc_X5 (cs_vcl (by omega)) (by decide) (cs_vsc (by omega) 5 true (by decide)) q449 dX5_loses_1 ?_
  refine zs_iload_n (pc := 4) 1 dX5_loses_4 rfl rfl ?_
  refine zs_icmp_le (pc := 5) (tgt := 51) dX5_loses_5 (by decide) ?_ ?_
  · refine zs_aload_n (pc := 8) 0 dX5_loses_8 rfl rfl ?_
    refine zs_dup (pc := 9) dX5_loses_9 rfl ?_
    refine cs_geti (pc := 10) (cs_va i) (10 + i) 5 (cs_pv (by omega)) zc_X5 (cs_vcl (by omega)) (by decide) (cs_vsc (by omega) 5 true (by decide)) q449 dX5_loses_10 ?_
    refine zs_iconst (pc := 13) (v := 1) dX5_loses_13 rfl ?_
    refine zs_isub (pc := 14) dX5_loses_14 ?_
    refine cs_puti (pc := 15) (cs_va i) (10 + i) 5 (cs_pv (by omega)) zc_X5 (cs_vcl (by omega)) (by decide) (cs_vsc (by omega) 5 true (by decide)) q449 rfl rfl rfl dX5_loses_15 (fun M1 => ?_)
    refine zs_aload_n (pc := 18) 0 dX5_loses_18 rfl rfl ?_
    refine cs_getr (pc := 19) (cs_va i) (10 + i) 1 (v := .ref (c + (cs_va i + 2))) (cs_pv (by omega)) zc_X5 (cs_vcl (by omega)) (by decide) (cs_vsc (by omega) 1 false (by decide)) (cs_vcv (by omega) 1 2 (by decide)) q441 dX5_loses_19 ?_
    refine zs_aload_n (pc := 22) 0 dX5_loses_22 rfl rfl ?_
    refine cs_getr (pc := 23) (cs_va i) (10 + i) 4 (v := .ref (c + (cs_va i + 5))) (cs_pv (by omega)) zc_X5 (cs_vcl (by omega)) (by decide) (cs_vsc (by omega) 4 false (by decide)) (cs_vcv (by omega) 4 5 (by decide)) q447 dX5_loses_23 ?_
    refine zs_aload_n (pc := 26) 0 dX5_loses_26 rfl rfl ?_
    refine cs_geti (pc := 27) (cs_va i) (10 + i) 5 (cs_pv (by omega)) zc_X5 (cs_vcl (by omega)) (by decide) (cs_vsc (by omega) 5 true (by decide)) q449 dX5_loses_27 ?_
    refine cs_iald (pc := 30) (cs_va i + 5) (10 + i) 4 (cs_pva (by omega) 5 (by decide) 6 rfl) dX5_loses_30 (fun x2 => ?_)
    refine zs_iconst (pc := 31) (v := 0) dX5_loses_31 rfl ?_
    refine cs_iast (pc := 32) (cs_va i + 2) (10 + i) 1 (cs_pva (by omega) 2 (by decide) 6 rfl) dX5_loses_32 (fun M3 => ?_)
    refine zs_aload_n (pc := 33) 0 dX5_loses_33 rfl rfl ?_
    refine cs_getr (pc := 34) (cs_va i) (10 + i) 2 (v := .ref (c + (cs_va i + 3))) (cs_pv (by omega)) zc_X5 (cs_vcl (by omega)) (by decide) (cs_vsc (by omega) 2 false (by decide)) (cs_vcv (by omega) 2 3 (by decide)) q443 dX5_loses_34 ?_
    refine zs_aload_n (pc := 37) 0 dX5_loses_37 rfl rfl ?_
    refine cs_getr (pc := 38) (cs_va i) (10 + i) 4 (v := .ref (c + (cs_va i + 5))) (cs_pv (by omega)) zc_X5 (cs_vcl (by omega)) (by decide) (cs_vsc (by omega) 4 false (by decide)) (cs_vcv (by omega) 4 5 (by decide)) q447 dX5_loses_38 ?_
    refine zs_aload_n (pc := 41) 0 dX5_loses_41 rfl rfl ?_
    refine cs_geti (pc := 42) (cs_va i) (10 + i) 5 (cs_pv (by omega)) zc_X5 (cs_vcl (by omega)) (by decide) (cs_vsc (by omega) 5 true (by decide)) q449 dX5_loses_42 ?_
    refine cs_iald (pc := 45) (cs_va i + 5) (10 + i) 4 (cs_pva (by omega) 5 (by decide) 6 rfl) dX5_loses_45 (fun x4 => ?_)
    refine zs_iconst (pc := 46) (v := 0) dX5_loses_46 rfl ?_
    refine cs_iast (pc := 47) (cs_va i + 3) (10 + i) 2 (cs_pva (by omega) 3 (by decide) 6 rfl) dX5_loses_47 (fun M5 => ?_)
    refine zs_goto (pc := 48) (tgt := 0) dX5_loses_48 (by decide) ?_
    exact hL0 M5
  · exact zs_vret (pc := 51) dX5_loses_51 ((hR0 _).trans rfl) rfl
theorem wh_unsplice : zs_mV RX0 yX0_unsplice cX0_unsplice 2 (some .int) 0 := ⟨q1234, q1235, q134, q1236, by decide, by decide +kernel⟩
def gh_unsplice (T : zt_T) (M : cs_S) : Option (Int32 × cs_S) :=
if (M.1 (10 + 0) 5) = 0 then (some ((-1), M))
else ((zs_ald 6 (M.2 (10 + 0) 4) ((M.1 (10 + 0) 5) - 1)).bind fun x1 =>
(gh_keeps T M).bind fun M2 =>
(gv_loses T M2 0 ((M2.1 (10 + 0) 5) - 1)).bind fun M3 =>
some (x1, M3))
set_option maxHeartbeats 4000000 in
theorem kh_unsplice (D : zs_D) (W : cs_W) (P : Nat → Bool) (h0 : zs_AH) (c : Nat) (M : cs_S) : zs_Con D (cs_R W P h0 c) cs_bd zs_eI yX0_unsplice cX0_unsplice 2 (some .int) 4 [.ref (c + 0)] M (gh_unsplice W.2.1 M) := by
  unfold gh_unsplice
  refine zs_con (own := RX0) (nm := "unsplice") pl_X0 rfl rfl (Nat.le_of_ble_eq_true rfl) ?_
  refine zs_lv (lv' := [(0, .ref (c + 0))]) rfl ?_
  refine zs_aload_n (pc := 0) 0 dX0_unsplice_0 rfl rfl ?_
  refine cs_getr (pc := 1) 0 0 7 (v := .ref (c + cs_va 0)) ⟨⟨by decide, by decide⟩, rfl⟩ zc_X0 ⟨rfl, rfl⟩ (by decide) rfl rfl q536 dX0_unsplice_1 ?_
  refine cs_geti (pc := 4) (cs_va 0) (10 + 0) 5 (cs_pv (by omega)) zc_X5 (cs_vcl (by omega)) (by decide) (cs_vsc (by omega) 5 true (by decide)) q450 dX0_unsplice_4 ?_
  refine zs_if_ne (pc := 7) (tgt := 12) dX0_unsplice_7 (by decide) ?_ ?_
  · refine zs_iconst (pc := 10) (v := (-1)) dX0_unsplice_10 rfl ?_
    exact zs_iret (pc := 11) dX0_unsplice_11 rfl rfl rfl
  · refine zs_aload_n (pc := 12) 0 dX0_unsplice_12 rfl rfl ?_
    refine cs_getr (pc := 13) 0 0 7 (v := .ref (c + cs_va 0)) ⟨⟨by decide, by decide⟩, rfl⟩ zc_X0 ⟨rfl, rfl⟩ (by decide) rfl rfl q536 dX0_unsplice_13 ?_
    refine cs_getr (pc := 16) (cs_va 0) (10 + 0) 4 (v := .ref (c + (cs_va 0 + 5))) (cs_pv (by omega)) zc_X5 (cs_vcl (by omega)) (by decide) (cs_vsc (by omega) 4 false (by decide)) (cs_vcv (by omega) 4 5 (by decide)) q448 dX0_unsplice_16 ?_
    refine zs_aload_n (pc := 19) 0 dX0_unsplice_19 rfl rfl ?_
    refine cs_getr (pc := 20) 0 0 7 (v := .ref (c + cs_va 0)) ⟨⟨by decide, by decide⟩, rfl⟩ zc_X0 ⟨rfl, rfl⟩ (by decide) rfl rfl q536 dX0_unsplice_20 ?_
    refine cs_geti (pc := 23) (cs_va 0) (10 + 0) 5 (cs_pv (by omega)) zc_X5 (cs_vcl (by omega)) (by decide) (cs_vsc (by omega) 5 true (by decide)) q450 dX0_unsplice_23 ?_
    refine zs_iconst (pc := 26) (v := 1) dX0_unsplice_26 rfl ?_
    refine zs_isub (pc := 27) dX0_unsplice_27 ?_
    refine cs_iald (pc := 28) (cs_va 0 + 5) (10 + 0) 4 (cs_pva (by omega) 5 (by decide) 6 rfl) dX0_unsplice_28 (fun x1 => ?_)
    refine zs_istore_n (pc := 29) (lv' := [(0, .ref (c + 0)), (1, .int x1)]) [1, 0] dX0_unsplice_29 rfl (by decide) rfl ?_
    refine zs_aload_n (pc := 30) 0 dX0_unsplice_30 rfl rfl ?_
    refine zs_callVv (pc := 31) [] [] (kh_keeps D W P h0 c M) wh_keeps q1212 zc_X0 cs_rcv0 dX0_unsplice_31 rfl rfl (Nat.le_of_ble_eq_true rfl) (Nat.le_of_ble_eq_true rfl) (fun M2 => ?_)
    refine zs_aload_n (pc := 34) 0 dX0_unsplice_34 rfl rfl ?_
    refine cs_getr (pc := 35) 0 0 7 (v := .ref (c + cs_va 0)) ⟨⟨by decide, by decide⟩, rfl⟩ zc_X0 ⟨rfl, rfl⟩ (by decide) rfl rfl q536 dX0_unsplice_35 ?_
    refine zs_aload_n (pc := 38) 0 dX0_unsplice_38 rfl rfl ?_
    refine cs_getr (pc := 39) 0 0 7 (v := .ref (c + cs_va 0)) ⟨⟨by decide, by decide⟩, rfl⟩ zc_X0 ⟨rfl, rfl⟩ (by decide) rfl rfl q536 dX0_unsplice_39 ?_
    refine cs_geti (pc := 42) (cs_va 0) (10 + 0) 5 (cs_pv (by omega)) zc_X5 (cs_vcl (by omega)) (by decide) (cs_vsc (by omega) 5 true (by decide)) q450 dX0_unsplice_42 ?_
    refine zs_iconst (pc := 45) (v := 1) dX0_unsplice_45 rfl ?_
    refine zs_isub (pc := 46) dX0_unsplice_46 ?_
    refine zs_callVv (pc := 47) [.int ((M2.1 (10 + 0) 5) - 1)] [] (kv_xloses D W P h0 c M2 0 (by omega) ((M2.1 (10 + 0) 5) - 1)) wv_loses q1237 zc_X5 (cs_rcvv (by omega)) dX0_unsplice_47 rfl rfl (Nat.le_of_ble_eq_true rfl) (Nat.le_of_ble_eq_true rfl) (fun M3 => ?_)
    refine zs_iload_n (pc := 50) 1 dX0_unsplice_50 rfl rfl ?_
    exact zs_iret (pc := 51) dX0_unsplice_51 rfl rfl rfl
theorem wh_isHaul : zs_mS yX0_isHaul cX0_isHaul 1 (some .boolean) 1 := ⟨q1246, q134, q1247, by decide, by decide +kernel⟩
def gh_isHaul (a0 : Int32) : Option (Bool) :=
(gh_isIn a0 0 999).bind fun b1 =>
some b1
set_option maxHeartbeats 4000000 in
theorem kh_isHaul {σ : Type} (D : zs_D) (Rl : σ → zs_AH → Prop) (bd : σ → Nat × Nat) (M : σ) (a0 : Int32) : zs_Con D Rl bd zs_eB yX0_isHaul cX0_isHaul 1 (some .boolean) 1 [.int a0] M ((gh_isHaul a0).map fun x => (x, M)) := by
  unfold gh_isHaul
  refine zs_conR (own := RX0) (nm := "isHaul") pl_X0 rfl rfl (Nat.le_of_ble_eq_true rfl) ?_
  refine zs_lv (lv' := [(0, .int a0)]) rfl ?_
  refine zs_iload_n (pc := 0) 0 dX0_isHaul_0 rfl rfl ?_
  refine zs_iconst (pc := 1) (v := 0) dX0_isHaul_1 rfl ?_
  refine zs_sipush (pc := 2) (v := 999) dX0_isHaul_2 (by decide) ?_
  refine zs_callSrB (pc := 5) [.int a0, .int 0, .int 999] [] (kh_isIn D _ _ M a0 0 999) wh_isIn q1129 dX0_isHaul_5 rfl rfl (Nat.le_of_ble_eq_true rfl) (Nat.le_of_ble_eq_true rfl) (fun b1 => ?_)
  exact zs_iret (pc := 8) dX0_isHaul_8 rfl rfl (zs_nb _)
theorem wh_isLong : zs_mV RX0 yX0_isLong cX0_isLong 1 (some .boolean) 0 := ⟨q1250, qs36, q134, q1251, by decide, by decide +kernel⟩
def gh_isLong (T : zt_T) (M : cs_S) : Option (Bool) :=
(gv_ropeLong T M 0).bind fun x1 =>
if x1 < (zt_f T 4) then (some false)
else (some true)
set_option maxHeartbeats 4000000 in
theorem kh_isLong (D : zs_D) (W : cs_W) (P : Nat → Bool) (h0 : zs_AH) (c : Nat) (M : cs_S) : zs_Con D (cs_R W P h0 c) cs_bd zs_eB yX0_isLong cX0_isLong 1 (some .boolean) 1 [.ref (c + 0)] M ((gh_isLong W.2.1 M).map fun x => (x, M)) := by
  unfold gh_isLong
  refine zs_conR (own := RX0) (nm := "isLong") pl_X0 rfl rfl (Nat.le_of_ble_eq_true rfl) ?_
  refine zs_lv (lv' := [(0, .ref (c + 0))]) rfl ?_
  refine zs_aload_n (pc := 0) 0 dX0_isLong_0 rfl rfl ?_
  refine cs_getr (pc := 1) 0 0 7 (v := .ref (c + cs_va 0)) ⟨⟨by decide, by decide⟩, rfl⟩ zc_X0 ⟨rfl, rfl⟩ (by decide) rfl rfl q536 dX0_isLong_1 ?_
  refine zs_callVrI (pc := 4) [] [] (kv_xropeLong D W P h0 c M 0 (by omega)) wv_ropeLong q1229 zc_X5 (cs_rcvv (by omega)) dX0_isLong_4 rfl rfl (Nat.le_of_ble_eq_true rfl) (Nat.le_of_ble_eq_true rfl) (fun x1 => ?_)
  refine zs_aload_n (pc := 7) 0 dX0_isLong_7 rfl rfl ?_
  refine cs_getr (pc := 8) 0 0 3 (v := .ref (zt_ad W.2.1 0)) ⟨⟨by decide, by decide⟩, rfl⟩ zc_X0 ⟨rfl, rfl⟩ (by decide) rfl rfl q532 dX0_isLong_8 ?_
  refine ct_num (pc := 11) 4 (by decide) q390 dX0_isLong_11 ?_
  refine zs_icmp_lt (pc := 14) (tgt := 21) dX0_isLong_14 (by decide) ?_ ?_
  · refine zs_iconst (pc := 21) (v := 0) dX0_isLong_21 rfl ?_
    exact zs_iret (pc := 22) dX0_isLong_22 rfl rfl rfl
  · refine zs_iconst (pc := 17) (v := 1) dX0_isLong_17 rfl ?_
    refine zs_goto (pc := 18) (tgt := 22) dX0_isLong_18 (by decide) ?_
    exact zs_iret (pc := 22) dX0_isLong_22 rfl rfl rfl
