/-! what the reader reaches, walked: what each method computes (gp_), that its code computes it (kp_). Printed by wip/D-73134w/gen/reader.py -/
set_option maxRecDepth 100000
theorem wp_X3_wrongAt : zs_mV RX3 yX3_wrongAt cX3_wrongAt 3 (some (.object "HairRope$Fault")) 2 := ⟨q718, qs10, q140, q719, by decide, by decide +kernel⟩
def gp_X3_wrongAt (w : Nat → Nat) (c : Nat) (M : ps_S) (a1 : Int32) (a2 : Int32) : Option (Unit × ps_S) :=
(zs_ald 2001 (M.1.2 2 4) a2).bind fun x1 =>
(gp_X1_of w c M a1 x1).bind fun p2 =>
some ((), p2.2)
set_option maxHeartbeats 4000000 in
theorem kp_X3_wrongAt (D : zs_D) (Wd : cs_W) (c : Nat) (hE : D.2.2.2 1 = .ref (Wd.1 100)) (hF : D.2.2.2 4 = hp_v (Wd.1 101)) (M : ps_S) (a1 : Int32) (a2 : Int32) : zs_Con D (ps_R Wd c) ps_bd (zs_eK (c + 1)) yX3_wrongAt cX3_wrongAt 3 (some (.object "HairRope$Fault")) 1 [.ref (c + 9), .int a1, .int a2] M (gp_X3_wrongAt Wd.1 c M a1 a2) := by
  unfold gp_X3_wrongAt
  refine zs_con (own := RX3) (nm := "wrongAt") pl_X3 rfl rfl (Nat.le_of_ble_eq_true rfl) ?_
  refine zs_lv (lv' := [(0, .ref (c + 9)), (1, .int a1), (2, .int a2)]) rfl ?_
  refine zs_aload_n (pc := 0) 0 dX3_wrongAt_0 rfl rfl ?_
  refine ps_getr (pc := 1) 9 3 1 (v := .ref (c + 1)) ⟨⟨by decide, by decide⟩, rfl⟩ zc_X3 ⟨rfl, rfl⟩ (by decide) rfl rfl q319 dX3_wrongAt_1 ?_
  refine zs_iload_n (pc := 4) 1 dX3_wrongAt_4 rfl rfl ?_
  refine zs_aload_n (pc := 5) 0 dX3_wrongAt_5 rfl rfl ?_
  refine ps_getr (pc := 6) 9 3 0 (v := .ref (c + 2)) ⟨⟨by decide, by decide⟩, rfl⟩ zc_X3 ⟨rfl, rfl⟩ (by decide) rfl rfl q318 dX3_wrongAt_6 ?_
  refine ps_getr (pc := 9) 2 2 4 (v := .ref (c + 6)) ⟨⟨by decide, by decide⟩, rfl⟩ zc_X2 ⟨rfl, rfl⟩ (by decide) rfl rfl q289 dX3_wrongAt_9 ?_
  refine zs_iload_n (pc := 12) 2 dX3_wrongAt_12 rfl rfl ?_
  refine ps_fsald (pc := 13) 6 2 4 ⟨⟨by decide, by decide⟩, rfl, rfl, rfl⟩ dX3_wrongAt_13 (fun x1 => ?_)
  refine zs_callVwK (pc := 14) [.int a1, .int x1] [] (kp_X1_of D Wd c hE hF M a1 x1) wp_X1_of q720 zc_X1 ps_rcvF dX3_wrongAt_14 rfl rfl (Nat.le_of_ble_eq_true rfl) (Nat.le_of_ble_eq_true rfl) (fun p2 => ?_)
  exact zs_aret (pc := 17) dX3_wrongAt_17 rfl rfl (Or.inl ⟨_, rfl⟩) (Or.inr ⟨_, rfl⟩)
theorem wp_X3_wrong : zs_mV RX3 yX3_wrong cX3_wrong 2 (some (.object "HairRope$Fault")) 1 := ⟨q714, qs9, q140, q715, by decide, by decide +kernel⟩
def gp_X3_wrong (w : Nat → Nat) (c : Nat) (M : ps_S) (a1 : Int32) : Option (Unit × ps_S) :=
(gp_X3_wrongAt w c M a1 (M.1.1 3 3)).bind fun p1 =>
some ((), p1.2)
set_option maxHeartbeats 4000000 in
theorem kp_X3_wrong (D : zs_D) (Wd : cs_W) (c : Nat) (hE : D.2.2.2 1 = .ref (Wd.1 100)) (hF : D.2.2.2 4 = hp_v (Wd.1 101)) (M : ps_S) (a1 : Int32) : zs_Con D (ps_R Wd c) ps_bd (zs_eK (c + 1)) yX3_wrong cX3_wrong 2 (some (.object "HairRope$Fault")) 2 [.ref (c + 9), .int a1] M (gp_X3_wrong Wd.1 c M a1) := by
  unfold gp_X3_wrong
  refine zs_con (own := RX3) (nm := "wrong") pl_X3 rfl rfl (Nat.le_of_ble_eq_true rfl) ?_
  refine zs_lv (lv' := [(0, .ref (c + 9)), (1, .int a1)]) rfl ?_
  refine zs_aload_n (pc := 0) 0 dX3_wrong_0 rfl rfl ?_
  refine zs_iload_n (pc := 1) 1 dX3_wrong_1 rfl rfl ?_
  refine zs_aload_n (pc := 2) 0 dX3_wrong_2 rfl rfl ?_
  refine ps_geti (pc := 3) 9 3 3 ⟨⟨by decide, by decide⟩, rfl⟩ zc_X3 ⟨rfl, rfl⟩ (by decide) rfl q321 dX3_wrong_3 ?_
  refine zs_callVwK (pc := 6) [.int a1, .int (M.1.1 3 3)] [] (kp_X3_wrongAt D Wd c hE hF M a1 (M.1.1 3 3)) wp_X3_wrongAt q716 zc_X3 ps_rcvP dX3_wrong_6 rfl rfl (Nat.le_of_ble_eq_true rfl) (Nat.le_of_ble_eq_true rfl) (fun p1 => ?_)
  exact zs_aret (pc := 9) dX3_wrong_9 rfl rfl (Or.inl ⟨_, rfl⟩) (Or.inr ⟨_, rfl⟩)
theorem wp_X3_tell : zs_mV RX3 yX3_tell cX3_tell 3 none 2 := ⟨q1033, qs24, q140, q1034, by decide, by decide +kernel⟩
def gp_X3_tell (w : Nat → Nat) (c : Nat) (M : ps_S) (a1 : Int32) (a2 : Int32) : Option (ps_S) :=
zs_let (fun (p1 : Unit) => (some (ps_sF M 3 5 a1)).bind fun M2 =>
(some (ps_sF M2 3 6 a2)).bind fun M3 =>
some M3) fun J32 =>
if (M.1.1 3 5) = 0 then (J32 ())
else (if (M.1.1 3 6) < a2 then (some M)
else (if a2 = (M.1.1 3 6) then (if a1 < (M.1.1 3 5) then (J32 ())
else (some M))
else (J32 ())))
set_option maxHeartbeats 4000000 in
theorem kp_X3_tell (D : zs_D) (Wd : cs_W) (c : Nat) (hE : D.2.2.2 1 = .ref (Wd.1 100)) (hF : D.2.2.2 4 = hp_v (Wd.1 101)) (M : ps_S) (a1 : Int32) (a2 : Int32) : zs_Con D (ps_R Wd c) ps_bd zs_eV yX3_tell cX3_tell 3 none 0 [.ref (c + 9), .int a1, .int a2] M ((gp_X3_tell Wd.1 c M a1 a2).map fun x => ((), x)) := by
  unfold gp_X3_tell
  refine zs_conV (own := RX3) (nm := "tell") pl_X3 rfl rfl (Nat.le_of_ble_eq_true rfl) ?_
  refine zs_lv (lv' := [(0, .ref (c + 9)), (1, .int a1), (2, .int a2)]) rfl ?_
  refine zs_aload_n (pc := 0) 0 dX3_tell_0 rfl rfl ?_
  refine ps_geti (pc := 1) 9 3 5 ⟨⟨by decide, by decide⟩, rfl⟩ zc_X3 ⟨rfl, rfl⟩ (by decide) rfl q323 dX3_tell_1 ?_
  refine zs_letJ (pc := 4) (fun (p1 : Unit) => M) 32 (fun (p1 : Unit) => [(0, .ref (c + 9)), (1, .int a1), (2, .int a2)]) (fun (p1 : Unit) => []) (fun p1 => ?_) (fun J32 h32 => ?_)
  · refine zs_aload_n (pc := 32) 0 dX3_tell_32 rfl rfl ?_
    refine zs_iload_n (pc := 33) 1 dX3_tell_33 rfl rfl ?_
    refine ps_puti (pc := 34) 9 3 5 ⟨⟨by decide, by decide⟩, rfl⟩ zc_X3 ⟨rfl, rfl⟩ (by decide) rfl q323 rfl rfl rfl dX3_tell_34 (fun M2 => ?_)
    refine zs_aload_n (pc := 37) 0 dX3_tell_37 rfl rfl ?_
    refine zs_iload_n (pc := 38) 2 dX3_tell_38 rfl rfl ?_
    refine ps_puti (pc := 39) 9 3 6 ⟨⟨by decide, by decide⟩, rfl⟩ zc_X3 ⟨rfl, rfl⟩ (by decide) rfl q324 rfl rfl rfl dX3_tell_39 (fun M3 => ?_)
    exact zs_vret (pc := 42) dX3_tell_42 rfl rfl
  · refine zs_if_eq (pc := 4) (tgt := 32) dX3_tell_4 (by decide) ?_ ?_
    · exact h32 ()
    · refine zs_iload_n (pc := 7) 2 dX3_tell_7 rfl rfl ?_
      refine zs_aload_n (pc := 8) 0 dX3_tell_8 rfl rfl ?_
      refine ps_geti (pc := 9) 9 3 6 ⟨⟨by decide, by decide⟩, rfl⟩ zc_X3 ⟨rfl, rfl⟩ (by decide) rfl q324 dX3_tell_9 ?_
      refine zs_icmp_gt (pc := 12) (tgt := 31) dX3_tell_12 (by decide) ?_ ?_
      · exact zs_vret (pc := 31) dX3_tell_31 rfl rfl
      · refine zs_iload_n (pc := 15) 2 dX3_tell_15 rfl rfl ?_
        refine zs_aload_n (pc := 16) 0 dX3_tell_16 rfl rfl ?_
        refine ps_geti (pc := 17) 9 3 6 ⟨⟨by decide, by decide⟩, rfl⟩ zc_X3 ⟨rfl, rfl⟩ (by decide) rfl q324 dX3_tell_17 ?_
        refine zs_icmp_ne (pc := 20) (tgt := 32) dX3_tell_20 (by decide) ?_ ?_
        · refine zs_iload_n (pc := 23) 1 dX3_tell_23 rfl rfl ?_
          refine zs_aload_n (pc := 24) 0 dX3_tell_24 rfl rfl ?_
          refine ps_geti (pc := 25) 9 3 5 ⟨⟨by decide, by decide⟩, rfl⟩ zc_X3 ⟨rfl, rfl⟩ (by decide) rfl q323 dX3_tell_25 ?_
          refine zs_icmp_lt (pc := 28) (tgt := 32) dX3_tell_28 (by decide) ?_ ?_
          · exact h32 ()
          · exact zs_vret (pc := 31) dX3_tell_31 rfl rfl
        · exact h32 ()
theorem wp_X3_sort : zs_mV RX3 yX3_sort cX3_sort 1 (some .int) 0 := ⟨q710, qs8, q140, q711, by decide, by decide +kernel⟩
def gp_X3_sort (w : Nat → Nat) (c : Nat) (M : ps_S) : Option (Option Int32 × ps_S) :=
(zs_ald 2001 (M.1.2 2 3) (M.1.1 3 3)).bind fun x1 =>
if x1 = 5 then ((gp_X3_wrong w c M 1).bind fun p3 =>
some (none, p3.2))
else ((zs_ald 2001 (M.1.2 2 3) (M.1.1 3 3)).bind fun x2 =>
some (some x2, M))
set_option maxHeartbeats 4000000 in
theorem kp_X3_sort (D : zs_D) (Wd : cs_W) (c : Nat) (hE : D.2.2.2 1 = .ref (Wd.1 100)) (hF : D.2.2.2 4 = hp_v (Wd.1 101)) (M : ps_S) : zx_Con D (ps_R Wd c) ps_bd zs_eI yX3_sort cX3_sort 1 (some .int) 3 [.ref (c + 9)] M (c + 1) (gp_X3_sort Wd.1 c M) := by
  unfold gp_X3_sort
  refine zx_con (own := RX3) (nm := "sort") pl_X3 rfl rfl (Nat.le_of_ble_eq_true rfl) ?_
  refine zs_lv (lv' := [(0, .ref (c + 9))]) rfl ?_
  refine zs_aload_n (pc := 0) 0 dX3_sort_0 rfl rfl ?_
  refine ps_getr (pc := 1) 9 3 0 (v := .ref (c + 2)) ⟨⟨by decide, by decide⟩, rfl⟩ zc_X3 ⟨rfl, rfl⟩ (by decide) rfl rfl q318 dX3_sort_1 ?_
  refine ps_getr (pc := 4) 2 2 3 (v := .ref (c + 5)) ⟨⟨by decide, by decide⟩, rfl⟩ zc_X2 ⟨rfl, rfl⟩ (by decide) rfl rfl q287 dX3_sort_4 ?_
  refine zs_aload_n (pc := 7) 0 dX3_sort_7 rfl rfl ?_
  refine ps_geti (pc := 8) 9 3 3 ⟨⟨by decide, by decide⟩, rfl⟩ zc_X3 ⟨rfl, rfl⟩ (by decide) rfl q321 dX3_sort_8 ?_
  refine ps_fbald (pc := 11) 5 2 3 ⟨⟨by decide, by decide⟩, rfl, rfl, rfl⟩ dX3_sort_11 (fun x1 => ?_)
  refine zs_iconst (pc := 12) (v := 5) dX3_sort_12 rfl ?_
  refine zs_icmp_ne (pc := 13) (tgt := 22) dX3_sort_13 (by decide) ?_ ?_
  · refine zs_aload_n (pc := 16) 0 dX3_sort_16 rfl rfl ?_
    refine zs_iconst (pc := 17) (v := 1) dX3_sort_17 rfl ?_
    refine zs_callVwK (pc := 18) [.int 1] [] (kp_X3_wrong D Wd c hE hF M 1) wp_X3_wrong q712 zc_X3 ps_rcvP dX3_sort_18 rfl rfl (Nat.le_of_ble_eq_true rfl) (Nat.le_of_ble_eq_true rfl) (fun p3 => ?_)
    exact zx_throw (pc := 21) dX3_sort_21 rfl ps_fx
  · refine zs_aload_n (pc := 22) 0 dX3_sort_22 rfl rfl ?_
    refine ps_getr (pc := 23) 9 3 0 (v := .ref (c + 2)) ⟨⟨by decide, by decide⟩, rfl⟩ zc_X3 ⟨rfl, rfl⟩ (by decide) rfl rfl q318 dX3_sort_23 ?_
    refine ps_getr (pc := 26) 2 2 3 (v := .ref (c + 5)) ⟨⟨by decide, by decide⟩, rfl⟩ zc_X2 ⟨rfl, rfl⟩ (by decide) rfl rfl q287 dX3_sort_26 ?_
    refine zs_aload_n (pc := 29) 0 dX3_sort_29 rfl rfl ?_
    refine ps_geti (pc := 30) 9 3 3 ⟨⟨by decide, by decide⟩, rfl⟩ zc_X3 ⟨rfl, rfl⟩ (by decide) rfl q321 dX3_sort_30 ?_
    refine ps_fbald (pc := 33) 5 2 3 ⟨⟨by decide, by decide⟩, rfl, rfl, rfl⟩ dX3_sort_33 (fun x2 => ?_)
    exact zx_iret (pc := 34) dX3_sort_34 rfl rfl rfl
theorem wp_X3_pass : zs_mV RX3 yX3_pass cX3_pass 1 none 0 := ⟨q730, qs12, q140, q731, by decide, by decide +kernel⟩
def gp_X3_pass (w : Nat → Nat) (c : Nat) (M : ps_S) : Option (Option Unit × ps_S) :=
if (M.1.1 3 3) < 400 then ((some (ps_sF M 3 3 ((M.1.1 3 3) + 1))).bind fun M1 =>
some (some (), M1))
else ((gp_X3_wrong w c M 2).bind fun p2 =>
some (none, p2.2))
set_option maxHeartbeats 4000000 in
theorem kp_X3_pass (D : zs_D) (Wd : cs_W) (c : Nat) (hE : D.2.2.2 1 = .ref (Wd.1 100)) (hF : D.2.2.2 4 = hp_v (Wd.1 101)) (M : ps_S) : zx_Con D (ps_R Wd c) ps_bd zs_eV yX3_pass cX3_pass 1 none 3 [.ref (c + 9)] M (c + 1) (gp_X3_pass Wd.1 c M) := by
  unfold gp_X3_pass
  refine zx_con (own := RX3) (nm := "pass") pl_X3 rfl rfl (Nat.le_of_ble_eq_true rfl) ?_
  refine zs_lv (lv' := [(0, .ref (c + 9))]) rfl ?_
  refine zs_aload_n (pc := 0) 0 dX3_pass_0 rfl rfl ?_
  refine ps_geti (pc := 1) 9 3 3 ⟨⟨by decide, by decide⟩, rfl⟩ zc_X3 ⟨rfl, rfl⟩ (by decide) rfl q321 dX3_pass_1 ?_
  refine zs_sipush (pc := 4) (v := 400) dX3_pass_4 (by decide) ?_
  refine zs_icmp_lt (pc := 7) (tgt := 16) dX3_pass_7 (by decide) ?_ ?_
  · refine zs_aload_n (pc := 16) 0 dX3_pass_16 rfl rfl ?_
    refine zs_dup (pc := 17) dX3_pass_17 rfl ?_
    refine ps_geti (pc := 18) 9 3 3 ⟨⟨by decide, by decide⟩, rfl⟩ zc_X3 ⟨rfl, rfl⟩ (by decide) rfl q321 dX3_pass_18 ?_
    refine zs_iconst (pc := 21) (v := 1) dX3_pass_21 rfl ?_
    refine zs_iadd (pc := 22) dX3_pass_22 ?_
    refine ps_puti (pc := 23) 9 3 3 ⟨⟨by decide, by decide⟩, rfl⟩ zc_X3 ⟨rfl, rfl⟩ (by decide) rfl q321 rfl rfl rfl dX3_pass_23 (fun M1 => ?_)
    exact zx_vret (pc := 26) dX3_pass_26 rfl rfl
  · refine zs_aload_n (pc := 10) 0 dX3_pass_10 rfl rfl ?_
    refine zs_iconst (pc := 11) (v := 2) dX3_pass_11 rfl ?_
    refine zs_callVwK (pc := 12) [.int 2] [] (kp_X3_wrong D Wd c hE hF M 2) wp_X3_wrong q712 zc_X3 ps_rcvP dX3_pass_12 rfl rfl (Nat.le_of_ble_eq_true rfl) (Nat.le_of_ble_eq_true rfl) (fun p2 => ?_)
    exact zx_throw (pc := 15) dX3_pass_15 rfl ps_fx
theorem wp_X3_isSign : zs_mV RX3 yX3_isSign cX3_isSign 2 (some .boolean) 1 := ⟨q767, qs15, q140, q768, by decide, by decide +kernel⟩
def gp_X3_isSign (w : Nat → Nat) (c : Nat) (M : ps_S) (a1 : Int32) : Option (Bool) :=
(zs_ald 2001 (M.1.2 2 3) (M.1.1 3 3)).bind fun x1 =>
zs_let (fun (p2 : Unit) => some false) fun J36 =>
if x1 = 2 then ((zs_ald 2001 (M.1.2 2 6) (M.1.1 3 3)).bind fun x3 =>
if x3 = a1 then (some true)
else (J36 ()))
else (J36 ())
set_option maxHeartbeats 4000000 in
theorem kp_X3_isSign (D : zs_D) (Wd : cs_W) (c : Nat) (hE : D.2.2.2 1 = .ref (Wd.1 100)) (hF : D.2.2.2 4 = hp_v (Wd.1 101)) (M : ps_S) (a1 : Int32) : zs_Con D (ps_R Wd c) ps_bd zs_eB yX3_isSign cX3_isSign 2 (some .boolean) 0 [.ref (c + 9), .int a1] M ((gp_X3_isSign Wd.1 c M a1).map fun x => (x, M)) := by
  unfold gp_X3_isSign
  refine zs_conR (own := RX3) (nm := "isSign") pl_X3 rfl rfl (Nat.le_of_ble_eq_true rfl) ?_
  refine zs_lv (lv' := [(0, .ref (c + 9)), (1, .int a1)]) rfl ?_
  refine zs_aload_n (pc := 0) 0 dX3_isSign_0 rfl rfl ?_
  refine ps_getr (pc := 1) 9 3 0 (v := .ref (c + 2)) ⟨⟨by decide, by decide⟩, rfl⟩ zc_X3 ⟨rfl, rfl⟩ (by decide) rfl rfl q318 dX3_isSign_1 ?_
  refine ps_getr (pc := 4) 2 2 3 (v := .ref (c + 5)) ⟨⟨by decide, by decide⟩, rfl⟩ zc_X2 ⟨rfl, rfl⟩ (by decide) rfl rfl q287 dX3_isSign_4 ?_
  refine zs_aload_n (pc := 7) 0 dX3_isSign_7 rfl rfl ?_
  refine ps_geti (pc := 8) 9 3 3 ⟨⟨by decide, by decide⟩, rfl⟩ zc_X3 ⟨rfl, rfl⟩ (by decide) rfl q321 dX3_isSign_8 ?_
  refine ps_fbald (pc := 11) 5 2 3 ⟨⟨by decide, by decide⟩, rfl, rfl, rfl⟩ dX3_isSign_11 (fun x1 => ?_)
  refine zs_iconst (pc := 12) (v := 2) dX3_isSign_12 rfl ?_
  refine zs_letJ (pc := 13) (fun (p2 : Unit) => M) 36 (fun (p2 : Unit) => []) (fun (p2 : Unit) => []) (fun p2 => ?_) (fun J36 h36 => ?_)
  · refine zs_iconst (pc := 36) (v := 0) dX3_isSign_36 rfl ?_
    exact zs_iret (pc := 37) dX3_isSign_37 rfl rfl rfl
  · refine zs_icmp_ne (pc := 13) (tgt := 36) dX3_isSign_13 (by decide) ?_ ?_
    · refine zs_aload_n (pc := 16) 0 dX3_isSign_16 rfl rfl ?_
      refine ps_getr (pc := 17) 9 3 0 (v := .ref (c + 2)) ⟨⟨by decide, by decide⟩, rfl⟩ zc_X3 ⟨rfl, rfl⟩ (by decide) rfl rfl q318 dX3_isSign_17 ?_
      refine ps_getr (pc := 20) 2 2 6 (v := .ref (c + 8)) ⟨⟨by decide, by decide⟩, rfl⟩ zc_X2 ⟨rfl, rfl⟩ (by decide) rfl rfl q292 dX3_isSign_20 ?_
      refine zs_aload_n (pc := 23) 0 dX3_isSign_23 rfl rfl ?_
      refine ps_geti (pc := 24) 9 3 3 ⟨⟨by decide, by decide⟩, rfl⟩ zc_X3 ⟨rfl, rfl⟩ (by decide) rfl q321 dX3_isSign_24 ?_
      refine ps_fsald (pc := 27) 8 2 6 ⟨⟨by decide, by decide⟩, rfl, rfl, rfl⟩ dX3_isSign_27 (fun x3 => ?_)
      refine zs_iload_n (pc := 28) 1 dX3_isSign_28 rfl rfl ?_
      refine zs_icmp_ne (pc := 29) (tgt := 36) dX3_isSign_29 (by decide) ?_ ?_
      · refine zs_iconst (pc := 32) (v := 1) dX3_isSign_32 rfl ?_
        refine zs_goto (pc := 33) (tgt := 37) dX3_isSign_33 (by decide) ?_
        exact zs_iret (pc := 37) dX3_isSign_37 rfl rfl rfl
      · refine zs_sub (lv' := []) [] rfl ?_
        exact h36 ()
    · refine zs_sub (lv' := []) [] rfl ?_
      exact h36 ()
theorem wp_X3_isWord : zs_mV RX3 yX3_isWord cX3_isWord 2 (some .boolean) 1 := ⟨q771, qs16, q140, q772, by decide, by decide +kernel⟩
def gp_X3_isWord (w : Nat → Nat) (c : Nat) (M : ps_S) (a1 : Int32) : Option (Bool) :=
(zs_ald 2001 (M.1.2 2 3) (M.1.1 3 3)).bind fun x1 =>
zs_let (fun (p2 : Unit) => some false) fun J36 =>
if x1 = 3 then ((zs_ald 2001 (M.1.2 2 6) (M.1.1 3 3)).bind fun x3 =>
if x3 = a1 then (some true)
else (J36 ()))
else (J36 ())
set_option maxHeartbeats 4000000 in
theorem kp_X3_isWord (D : zs_D) (Wd : cs_W) (c : Nat) (hE : D.2.2.2 1 = .ref (Wd.1 100)) (hF : D.2.2.2 4 = hp_v (Wd.1 101)) (M : ps_S) (a1 : Int32) : zs_Con D (ps_R Wd c) ps_bd zs_eB yX3_isWord cX3_isWord 2 (some .boolean) 0 [.ref (c + 9), .int a1] M ((gp_X3_isWord Wd.1 c M a1).map fun x => (x, M)) := by
  unfold gp_X3_isWord
  refine zs_conR (own := RX3) (nm := "isWord") pl_X3 rfl rfl (Nat.le_of_ble_eq_true rfl) ?_
  refine zs_lv (lv' := [(0, .ref (c + 9)), (1, .int a1)]) rfl ?_
  refine zs_aload_n (pc := 0) 0 dX3_isWord_0 rfl rfl ?_
  refine ps_getr (pc := 1) 9 3 0 (v := .ref (c + 2)) ⟨⟨by decide, by decide⟩, rfl⟩ zc_X3 ⟨rfl, rfl⟩ (by decide) rfl rfl q318 dX3_isWord_1 ?_
  refine ps_getr (pc := 4) 2 2 3 (v := .ref (c + 5)) ⟨⟨by decide, by decide⟩, rfl⟩ zc_X2 ⟨rfl, rfl⟩ (by decide) rfl rfl q287 dX3_isWord_4 ?_
  refine zs_aload_n (pc := 7) 0 dX3_isWord_7 rfl rfl ?_
  refine ps_geti (pc := 8) 9 3 3 ⟨⟨by decide, by decide⟩, rfl⟩ zc_X3 ⟨rfl, rfl⟩ (by decide) rfl q321 dX3_isWord_8 ?_
  refine ps_fbald (pc := 11) 5 2 3 ⟨⟨by decide, by decide⟩, rfl, rfl, rfl⟩ dX3_isWord_11 (fun x1 => ?_)
  refine zs_iconst (pc := 12) (v := 3) dX3_isWord_12 rfl ?_
  refine zs_letJ (pc := 13) (fun (p2 : Unit) => M) 36 (fun (p2 : Unit) => []) (fun (p2 : Unit) => []) (fun p2 => ?_) (fun J36 h36 => ?_)
  · refine zs_iconst (pc := 36) (v := 0) dX3_isWord_36 rfl ?_
    exact zs_iret (pc := 37) dX3_isWord_37 rfl rfl rfl
  · refine zs_icmp_ne (pc := 13) (tgt := 36) dX3_isWord_13 (by decide) ?_ ?_
    · refine zs_aload_n (pc := 16) 0 dX3_isWord_16 rfl rfl ?_
      refine ps_getr (pc := 17) 9 3 0 (v := .ref (c + 2)) ⟨⟨by decide, by decide⟩, rfl⟩ zc_X3 ⟨rfl, rfl⟩ (by decide) rfl rfl q318 dX3_isWord_17 ?_
      refine ps_getr (pc := 20) 2 2 6 (v := .ref (c + 8)) ⟨⟨by decide, by decide⟩, rfl⟩ zc_X2 ⟨rfl, rfl⟩ (by decide) rfl rfl q292 dX3_isWord_20 ?_
      refine zs_aload_n (pc := 23) 0 dX3_isWord_23 rfl rfl ?_
      refine ps_geti (pc := 24) 9 3 3 ⟨⟨by decide, by decide⟩, rfl⟩ zc_X3 ⟨rfl, rfl⟩ (by decide) rfl q321 dX3_isWord_24 ?_
      refine ps_fsald (pc := 27) 8 2 6 ⟨⟨by decide, by decide⟩, rfl, rfl, rfl⟩ dX3_isWord_27 (fun x3 => ?_)
      refine zs_iload_n (pc := 28) 1 dX3_isWord_28 rfl rfl ?_
      refine zs_icmp_ne (pc := 29) (tgt := 36) dX3_isWord_29 (by decide) ?_ ?_
      · refine zs_iconst (pc := 32) (v := 1) dX3_isWord_32 rfl ?_
        refine zs_goto (pc := 33) (tgt := 37) dX3_isWord_33 (by decide) ?_
        exact zs_iret (pc := 37) dX3_isWord_37 rfl rfl rfl
      · refine zs_sub (lv' := []) [] rfl ?_
        exact h36 ()
    · refine zs_sub (lv' := []) [] rfl ?_
      exact h36 ()
theorem wp_X3_sign : zs_mV RX3 yX3_sign cX3_sign 2 none 1 := ⟨q763, qs14, q140, q764, by decide, by decide +kernel⟩
def gp_X3_sign (w : Nat → Nat) (c : Nat) (M : ps_S) (a1 : Int32) : Option (Option Unit × ps_S) :=
(gp_X3_isSign w c M a1).bind fun b1 =>
if b1 = true then ((gp_X3_pass w c M).bind (zx_sel (fun M3 => (none, M3)) fun (p2 : Unit × ps_S) =>
some (some (), p2.2)))
else ((gp_X3_wrong w c M 1).bind fun p4 =>
some (none, p4.2))
set_option maxHeartbeats 4000000 in
theorem kp_X3_sign (D : zs_D) (Wd : cs_W) (c : Nat) (hE : D.2.2.2 1 = .ref (Wd.1 100)) (hF : D.2.2.2 4 = hp_v (Wd.1 101)) (M : ps_S) (a1 : Int32) : zx_Con D (ps_R Wd c) ps_bd zs_eV yX3_sign cX3_sign 2 none 4 [.ref (c + 9), .int a1] M (c + 1) (gp_X3_sign Wd.1 c M a1) := by
  unfold gp_X3_sign
  refine zx_con (own := RX3) (nm := "sign") pl_X3 rfl rfl (Nat.le_of_ble_eq_true rfl) ?_
  refine zs_lv (lv' := [(0, .ref (c + 9)), (1, .int a1)]) rfl ?_
  refine zs_aload_n (pc := 0) 0 dX3_sign_0 rfl rfl ?_
  refine zs_iload_n (pc := 1) 1 dX3_sign_1 rfl rfl ?_
  refine zs_callVrB (pc := 2) [.int a1] [] (kp_X3_isSign D Wd c hE hF M a1) wp_X3_isSign q765 zc_X3 ps_rcvP dX3_sign_2 rfl rfl (Nat.le_of_ble_eq_true rfl) (Nat.le_of_ble_eq_true rfl) (fun b1 => ?_)
  refine zs_if_t (pc := 5) (tgt := 14) dX3_sign_5 (by decide) ?_ ?_
  · refine zs_aload_n (pc := 14) 0 dX3_sign_14 rfl rfl ?_
    refine zx_callVV (pc := 15) [] [] (kp_X3_pass D Wd c hE hF M) wp_X3_pass q728 zc_X3 ps_rcvP dX3_sign_15 rfl rfl (Nat.le_of_ble_eq_true rfl) (Nat.le_of_ble_eq_true rfl) (fun M3 => rfl) (fun p2 => ?_)
    exact zx_vret (pc := 18) dX3_sign_18 rfl rfl
  · refine zs_aload_n (pc := 8) 0 dX3_sign_8 rfl rfl ?_
    refine zs_iconst (pc := 9) (v := 1) dX3_sign_9 rfl ?_
    refine zs_callVwK (pc := 10) [.int 1] [] (kp_X3_wrong D Wd c hE hF M 1) wp_X3_wrong q712 zc_X3 ps_rcvP dX3_sign_10 rfl rfl (Nat.le_of_ble_eq_true rfl) (Nat.le_of_ble_eq_true rfl) (fun p4 => ?_)
    exact zx_throw (pc := 13) dX3_sign_13 rfl ps_fx
theorem wp_X3_word : zs_mV RX3 yX3_word cX3_word 2 none 1 := ⟨q834, qs21, q140, q835, by decide, by decide +kernel⟩
def gp_X3_word (w : Nat → Nat) (c : Nat) (M : ps_S) (a1 : Int32) : Option (Option Unit × ps_S) :=
(gp_X3_isWord w c M a1).bind fun b1 =>
if b1 = true then ((gp_X3_pass w c M).bind (zx_sel (fun M3 => (none, M3)) fun (p2 : Unit × ps_S) =>
some (some (), p2.2)))
else ((gp_X3_wrong w c M 1).bind fun p4 =>
some (none, p4.2))
set_option maxHeartbeats 4000000 in
theorem kp_X3_word (D : zs_D) (Wd : cs_W) (c : Nat) (hE : D.2.2.2 1 = .ref (Wd.1 100)) (hF : D.2.2.2 4 = hp_v (Wd.1 101)) (M : ps_S) (a1 : Int32) : zx_Con D (ps_R Wd c) ps_bd zs_eV yX3_word cX3_word 2 none 4 [.ref (c + 9), .int a1] M (c + 1) (gp_X3_word Wd.1 c M a1) := by
  unfold gp_X3_word
  refine zx_con (own := RX3) (nm := "word") pl_X3 rfl rfl (Nat.le_of_ble_eq_true rfl) ?_
  refine zs_lv (lv' := [(0, .ref (c + 9)), (1, .int a1)]) rfl ?_
  refine zs_aload_n (pc := 0) 0 dX3_word_0 rfl rfl ?_
  refine zs_iload_n (pc := 1) 1 dX3_word_1 rfl rfl ?_
  refine zs_callVrB (pc := 2) [.int a1] [] (kp_X3_isWord D Wd c hE hF M a1) wp_X3_isWord q769 zc_X3 ps_rcvP dX3_word_2 rfl rfl (Nat.le_of_ble_eq_true rfl) (Nat.le_of_ble_eq_true rfl) (fun b1 => ?_)
  refine zs_if_t (pc := 5) (tgt := 14) dX3_word_5 (by decide) ?_ ?_
  · refine zs_aload_n (pc := 14) 0 dX3_word_14 rfl rfl ?_
    refine zx_callVV (pc := 15) [] [] (kp_X3_pass D Wd c hE hF M) wp_X3_pass q728 zc_X3 ps_rcvP dX3_word_15 rfl rfl (Nat.le_of_ble_eq_true rfl) (Nat.le_of_ble_eq_true rfl) (fun M3 => rfl) (fun p2 => ?_)
    exact zx_vret (pc := 18) dX3_word_18 rfl rfl
  · refine zs_aload_n (pc := 8) 0 dX3_word_8 rfl rfl ?_
    refine zs_iconst (pc := 9) (v := 1) dX3_word_9 rfl ?_
    refine zs_callVwK (pc := 10) [.int 1] [] (kp_X3_wrong D Wd c hE hF M 1) wp_X3_wrong q712 zc_X3 ps_rcvP dX3_word_10 rfl rfl (Nat.le_of_ble_eq_true rfl) (Nat.le_of_ble_eq_true rfl) (fun p4 => ?_)
    exact zx_throw (pc := 13) dX3_word_13 rfl ps_fx
theorem wp_X3_take : zs_mV RX3 yX3_take cX3_take 2 (some .int) 1 := ⟨q845, qs23, q140, q846, by decide, by decide +kernel⟩
def gp_X3_take (w : Nat → Nat) (c : Nat) (M : ps_S) (a1 : Int32) : Option (Option Int32 × ps_S) :=
(gp_X3_sort w c M).bind (zx_sel (fun M2 => (none, M2)) fun (p1 : Int32 × ps_S) =>
if p1.1 = a1 then ((gp_X3_pass w c p1.2).bind (zx_sel (fun M4 => (none, M4)) fun (p3 : Unit × ps_S) =>
some (some ((p3.2.1.1 3 3) - 1), p3.2)))
else ((gp_X3_wrong w c p1.2 1).bind fun p5 =>
some (none, p5.2)))
set_option maxHeartbeats 4000000 in
theorem kp_X3_take (D : zs_D) (Wd : cs_W) (c : Nat) (hE : D.2.2.2 1 = .ref (Wd.1 100)) (hF : D.2.2.2 4 = hp_v (Wd.1 101)) (M : ps_S) (a1 : Int32) : zx_Con D (ps_R Wd c) ps_bd zs_eI yX3_take cX3_take 2 (some .int) 4 [.ref (c + 9), .int a1] M (c + 1) (gp_X3_take Wd.1 c M a1) := by
  unfold gp_X3_take
  refine zx_con (own := RX3) (nm := "take") pl_X3 rfl rfl (Nat.le_of_ble_eq_true rfl) ?_
  refine zs_lv (lv' := [(0, .ref (c + 9)), (1, .int a1)]) rfl ?_
  refine zs_aload_n (pc := 0) 0 dX3_take_0 rfl rfl ?_
  refine zx_callVI (pc := 1) [] [] (kp_X3_sort D Wd c hE hF M) wp_X3_sort q708 zc_X3 ps_rcvP dX3_take_1 rfl rfl (Nat.le_of_ble_eq_true rfl) (Nat.le_of_ble_eq_true rfl) (fun M2 => rfl) (fun p1 => ?_)
  refine zs_iload_n (pc := 4) 1 dX3_take_4 rfl rfl ?_
  refine zs_icmp_eq (pc := 5) (tgt := 14) dX3_take_5 (by decide) ?_ ?_
  · refine zs_aload_n (pc := 14) 0 dX3_take_14 rfl rfl ?_
    refine zx_callVV (pc := 15) [] [] (kp_X3_pass D Wd c hE hF p1.2) wp_X3_pass q728 zc_X3 ps_rcvP dX3_take_15 rfl rfl (Nat.le_of_ble_eq_true rfl) (Nat.le_of_ble_eq_true rfl) (fun M4 => rfl) (fun p3 => ?_)
    refine zs_aload_n (pc := 18) 0 dX3_take_18 rfl rfl ?_
    refine ps_geti (pc := 19) 9 3 3 ⟨⟨by decide, by decide⟩, rfl⟩ zc_X3 ⟨rfl, rfl⟩ (by decide) rfl q321 dX3_take_19 ?_
    refine zs_iconst (pc := 22) (v := 1) dX3_take_22 rfl ?_
    refine zs_isub (pc := 23) dX3_take_23 ?_
    exact zx_iret (pc := 24) dX3_take_24 rfl rfl rfl
  · refine zs_aload_n (pc := 8) 0 dX3_take_8 rfl rfl ?_
    refine zs_iconst (pc := 9) (v := 1) dX3_take_9 rfl ?_
    refine zs_callVwK (pc := 10) [.int 1] [] (kp_X3_wrong D Wd c hE hF p1.2 1) wp_X3_wrong q712 zc_X3 ps_rcvP dX3_take_10 rfl rfl (Nat.le_of_ble_eq_true rfl) (Nat.le_of_ble_eq_true rfl) (fun p5 => ?_)
    exact zx_throw (pc := 13) dX3_take_13 rfl ps_fx
theorem wp_X3_number : zs_mV RX3 yX3_number cX3_number 5 (some .int) 2 := ⟨q1055, qs25, q140, q1056, by decide, by decide +kernel⟩
def gp_X3_number (w : Nat → Nat) (c : Nat) (M : ps_S) (a1 : Int32) (a2 : Int32) : Option (Option Int32 × ps_S) :=
(gp_X3_take w c M 1).bind (zx_sel (fun M2 => (none, M2)) fun (p1 : Int32 × ps_S) =>
(gp_X2_number w c p1.2 p1.1).bind fun x3 =>
zs_let (fun (p4 : Unit) => (gp_X3_tell w c p1.2 5 p1.1).bind fun M5 =>
some (some x3, M5)) fun J28 =>
if x3 < a1 then (J28 ())
else (if a2 < x3 then (J28 ())
else (some (some x3, p1.2))))
set_option maxHeartbeats 4000000 in
theorem kp_X3_number (D : zs_D) (Wd : cs_W) (c : Nat) (hE : D.2.2.2 1 = .ref (Wd.1 100)) (hF : D.2.2.2 4 = hp_v (Wd.1 101)) (M : ps_S) (a1 : Int32) (a2 : Int32) : zx_Con D (ps_R Wd c) ps_bd zs_eI yX3_number cX3_number 5 (some .int) 5 [.ref (c + 9), .int a1, .int a2] M (c + 1) (gp_X3_number Wd.1 c M a1 a2) := by
  unfold gp_X3_number
  refine zx_con (own := RX3) (nm := "number") pl_X3 rfl rfl (Nat.le_of_ble_eq_true rfl) ?_
  refine zs_lv (lv' := [(0, .ref (c + 9)), (1, .int a1), (2, .int a2)]) rfl ?_
  refine zs_aload_n (pc := 0) 0 dX3_number_0 rfl rfl ?_
  refine zs_iconst (pc := 1) (v := 1) dX3_number_1 rfl ?_
  refine zx_callVI (pc := 2) [.int 1] [] (kp_X3_take D Wd c hE hF M 1) wp_X3_take q843 zc_X3 ps_rcvP dX3_number_2 rfl rfl (Nat.le_of_ble_eq_true rfl) (Nat.le_of_ble_eq_true rfl) (fun M2 => rfl) (fun p1 => ?_)
  refine zs_istore_n (pc := 5) (lv' := [(0, .ref (c + 9)), (1, .int a1), (2, .int a2), (3, .int p1.1)]) [1, 2, 3, 0] dX3_number_5 rfl (by decide) rfl ?_
  refine zs_aload_n (pc := 6) 0 dX3_number_6 rfl rfl ?_
  refine ps_getr (pc := 7) 9 3 0 (v := .ref (c + 2)) ⟨⟨by decide, by decide⟩, rfl⟩ zc_X3 ⟨rfl, rfl⟩ (by decide) rfl rfl q318 dX3_number_7 ?_
  refine zs_iload_n (pc := 10) 3 dX3_number_10 rfl rfl ?_
  refine zs_callVrI (pc := 11) [.int p1.1] [] (kp_X2_number D Wd c hE hF p1.2 p1.1) wp_X2_number q791 zc_X2 ps_rcvT dX3_number_11 rfl rfl (Nat.le_of_ble_eq_true rfl) (Nat.le_of_ble_eq_true rfl) (fun x3 => ?_)
  refine zs_istore (pc := 14) (lv' := [(0, .ref (c + 9)), (1, .int a1), (2, .int a2), (3, .int p1.1), (4, .int x3)]) [1, 2, 3, 4, 0] dX3_number_14 (by decide) rfl ?_
  refine zs_iload (pc := 16) 4 dX3_number_16 rfl ?_
  refine zs_iload_n (pc := 18) 1 dX3_number_18 rfl rfl ?_
  refine zs_letJ (pc := 19) (fun (p4 : Unit) => p1.2) 28 (fun (p4 : Unit) => [(0, .ref (c + 9)), (3, .int p1.1), (4, .int x3)]) (fun (p4 : Unit) => []) (fun p4 => ?_) (fun J28 h28 => ?_)
  · refine zs_aload_n (pc := 28) 0 dX3_number_28 rfl rfl ?_
    refine zs_iconst (pc := 29) (v := 5) dX3_number_29 rfl ?_
    refine zs_iload_n (pc := 30) 1 dX3_number_30 rfl rfl ?_
    refine zs_callVv (pc := 31) [.int 5, .int p1.1] [] (kp_X3_tell D Wd c hE hF p1.2 5 p1.1) wp_X3_tell q1031 zc_X3 ps_rcvP dX3_number_31 rfl rfl (Nat.le_of_ble_eq_true rfl) (Nat.le_of_ble_eq_true rfl) (fun M5 => ?_)
    refine zs_iload (pc := 34) 2 dX3_number_34 rfl ?_
    exact zx_iret (pc := 36) dX3_number_36 rfl rfl rfl
  · refine zs_icmp_lt (pc := 19) (tgt := 28) dX3_number_19 (by decide) ?_ ?_
    · refine zs_sub (lv' := [(0, .ref (c + 9)), (3, .int p1.1), (4, .int x3)]) [0, 3, 4] rfl ?_
      exact h28 ()
    · refine zs_iload (pc := 22) 4 dX3_number_22 rfl ?_
      refine zs_iload_n (pc := 24) 2 dX3_number_24 rfl rfl ?_
      refine zs_icmp_le (pc := 25) (tgt := 34) dX3_number_25 (by decide) ?_ ?_
      · refine zs_sub (lv' := [(0, .ref (c + 9)), (3, .int p1.1), (4, .int x3)]) [0, 3, 4] rfl ?_
        exact h28 ()
      · refine zs_iload (pc := 34) 4 dX3_number_34 rfl ?_
        exact zx_iret (pc := 36) dX3_number_36 rfl rfl rfl
theorem wp_X3_name : zs_mV RX3 yX3_name cX3_name 3 (some (.object "java/lang/String")) 0 := ⟨q841, qs22, q140, q842, by decide, by decide +kernel⟩
def gp_X3_name (w : Nat → Nat) (c : Nat) (M : ps_S) : Option (Option Nat × ps_S) :=
(gp_X3_take w c M 0).bind (zx_sel (fun M2 => (none, M2)) fun (p1 : Int32 × ps_S) =>
(gp_X2_text w c p1.2 p1.1).bind fun p3 =>
(ps_tx p3.2).bind fun y4 =>
(ps_ck c p3.2 y4 4).bind fun _ =>
(gp_X4_has w c p3.2 y4 p3.1).bind fun b6 =>
if b6 = true then ((gp_X3_tell w c p3.2 3 p1.1).bind fun M7 =>
some (some p3.1, M7))
else (some (some p3.1, p3.2)))
set_option maxHeartbeats 4000000 in
theorem kp_X3_name (D : zs_D) (Wd : cs_W) (c : Nat) (hE : D.2.2.2 1 = .ref (Wd.1 100)) (hF : D.2.2.2 4 = hp_v (Wd.1 101)) (M : ps_S) : zx_Con D (ps_R Wd c) ps_bd zs_eR yX3_name cX3_name 3 (some (.object "java/lang/String")) 7 [.ref (c + 9)] M (c + 1) (gp_X3_name Wd.1 c M) := by
  unfold gp_X3_name
  refine zx_con (own := RX3) (nm := "name") pl_X3 rfl rfl (Nat.le_of_ble_eq_true rfl) ?_
  refine zs_lv (lv' := [(0, .ref (c + 9))]) rfl ?_
  refine zs_aload_n (pc := 0) 0 dX3_name_0 rfl rfl ?_
  refine zs_iconst (pc := 1) (v := 0) dX3_name_1 rfl ?_
  refine zx_callVI (pc := 2) [.int 0] [] (kp_X3_take D Wd c hE hF M 0) wp_X3_take q843 zc_X3 ps_rcvP dX3_name_2 rfl rfl (Nat.le_of_ble_eq_true rfl) (Nat.le_of_ble_eq_true rfl) (fun M2 => rfl) (fun p1 => ?_)
  refine zs_istore_n (pc := 5) (lv' := [(0, .ref (c + 9)), (1, .int p1.1)]) [1, 0] dX3_name_5 rfl (by decide) rfl ?_
  refine zs_aload_n (pc := 6) 0 dX3_name_6 rfl rfl ?_
  refine ps_getr (pc := 7) 9 3 0 (v := .ref (c + 2)) ⟨⟨by decide, by decide⟩, rfl⟩ zc_X3 ⟨rfl, rfl⟩ (by decide) rfl rfl q318 dX3_name_7 ?_
  refine zs_iload_n (pc := 10) 1 dX3_name_10 rfl rfl ?_
  refine zs_callVwR (pc := 11) [.int p1.1] [] (kp_X2_text D Wd c hE hF p1.2 p1.1) wp_X2_text q847 zc_X2 ps_rcvT dX3_name_11 rfl rfl (Nat.le_of_ble_eq_true rfl) (Nat.le_of_ble_eq_true rfl) (fun p3 => ?_)
  refine zs_astore_n (pc := 14) (lv' := [(0, .ref (c + 9)), (1, .int p1.1), (2, .ref p3.1)]) [1, 2, 0] dX3_name_14 rfl (by decide) rfl ?_
  refine zs_aload_n (pc := 15) 0 dX3_name_15 rfl rfl ?_
  refine ps_getT (pc := 16) q320 dX3_name_16 (fun y4 => ?_)
  refine zs_aload_n (pc := 19) 2 dX3_name_19 rfl rfl ?_
  refine ps_ckr (pc := 20) (a := y4) (ci := 4) (fun hc5 => ?_)
  refine zs_callVrB (pc := 20) [.ref p3.1] [] (kp_X4_has D Wd c hE hF p3.2 y4 p3.1) wp_X4_has q1013 zc_X4 hc5 dX3_name_20 rfl rfl (Nat.le_of_ble_eq_true rfl) (Nat.le_of_ble_eq_true rfl) (fun b6 => ?_)
  refine zs_if_f (pc := 23) (tgt := 32) dX3_name_23 (by decide) ?_ ?_
  · refine zs_aload_n (pc := 26) 0 dX3_name_26 rfl rfl ?_
    refine zs_iconst (pc := 27) (v := 3) dX3_name_27 rfl ?_
    refine zs_iload_n (pc := 28) 1 dX3_name_28 rfl rfl ?_
    refine zs_callVv (pc := 29) [.int 3, .int p1.1] [] (kp_X3_tell D Wd c hE hF p3.2 3 p1.1) wp_X3_tell q1031 zc_X3 ps_rcvP dX3_name_29 rfl rfl (Nat.le_of_ble_eq_true rfl) (Nat.le_of_ble_eq_true rfl) (fun M7 => ?_)
    refine zs_aload_n (pc := 32) 2 dX3_name_32 rfl rfl ?_
    exact zx_aret (pc := 33) dX3_name_33 rfl rfl (Or.inl ⟨_, rfl⟩) (Or.inr ⟨_, rfl⟩)
  · refine zs_aload_n (pc := 32) 2 dX3_name_32 rfl rfl ?_
    exact zx_aret (pc := 33) dX3_name_33 rfl rfl (Or.inl ⟨_, rfl⟩) (Or.inr ⟨_, rfl⟩)
theorem wp_X3_known : zs_mV RX3 yX3_known cX3_known 4 (some .int) 1 := ⟨q1109, qs29, q140, q1110, by decide, by decide +kernel⟩
def gp_X3_known (w : Nat → Nat) (c : Nat) (M : ps_S) (a1 : Nat) : Option (Option Int32 × ps_S) :=
(gp_X3_take w c M 0).bind (zx_sel (fun M2 => (none, M2)) fun (p1 : Int32 × ps_S) =>
(gp_X2_text w c p1.2 p1.1).bind fun p3 =>
(gp_X4_at w c p3.2 a1 p3.1).bind fun x4 =>
if x4 < 0 then ((gp_X3_tell w c p3.2 4 p1.1).bind fun M5 =>
some (some x4, M5))
else (some (some x4, p3.2)))
set_option maxHeartbeats 4000000 in
theorem kp_X3_known (D : zs_D) (Wd : cs_W) (c : Nat) (hE : D.2.2.2 1 = .ref (Wd.1 100)) (hF : D.2.2.2 4 = hp_v (Wd.1 101)) (M : ps_S) (a1 : Nat) : zx_Con D (ps_R Wd c) ps_bd zs_eI yX3_known cX3_known 4 (some .int) 7 [.ref (c + 9), .ref a1] M (c + 1) (gp_X3_known Wd.1 c M a1) := by
  unfold gp_X3_known
  refine zx_con (own := RX3) (nm := "known") pl_X3 rfl rfl (Nat.le_of_ble_eq_true rfl) ?_
  refine zs_lv (lv' := [(0, .ref (c + 9)), (1, .ref a1)]) rfl ?_
  refine zs_aload_n (pc := 0) 0 dX3_known_0 rfl rfl ?_
  refine zs_iconst (pc := 1) (v := 0) dX3_known_1 rfl ?_
  refine zx_callVI (pc := 2) [.int 0] [] (kp_X3_take D Wd c hE hF M 0) wp_X3_take q843 zc_X3 ps_rcvP dX3_known_2 rfl rfl (Nat.le_of_ble_eq_true rfl) (Nat.le_of_ble_eq_true rfl) (fun M2 => rfl) (fun p1 => ?_)
  refine zs_istore_n (pc := 5) (lv' := [(0, .ref (c + 9)), (1, .ref a1), (2, .int p1.1)]) [1, 2, 0] dX3_known_5 rfl (by decide) rfl ?_
  refine zs_aload_n (pc := 6) 1 dX3_known_6 rfl rfl ?_
  refine zs_aload_n (pc := 7) 0 dX3_known_7 rfl rfl ?_
  refine ps_getr (pc := 8) 9 3 0 (v := .ref (c + 2)) ⟨⟨by decide, by decide⟩, rfl⟩ zc_X3 ⟨rfl, rfl⟩ (by decide) rfl rfl q318 dX3_known_8 ?_
  refine zs_iload_n (pc := 11) 2 dX3_known_11 rfl rfl ?_
  refine zs_callVwR (pc := 12) [.int p1.1] [.ref a1] (kp_X2_text D Wd c hE hF p1.2 p1.1) wp_X2_text q847 zc_X2 ps_rcvT dX3_known_12 rfl rfl (Nat.le_of_ble_eq_true rfl) (Nat.le_of_ble_eq_true rfl) (fun p3 => ?_)
  refine zs_callSrI (pc := 15) [.ref a1, .ref p3.1] [] (kp_X4_at D Wd c hE hF p3.2 a1 p3.1) wp_X4_at q1111 dX3_known_15 rfl rfl (Nat.le_of_ble_eq_true rfl) (Nat.le_of_ble_eq_true rfl) (fun x4 => ?_)
  refine zs_istore_n (pc := 18) (lv' := [(0, .ref (c + 9)), (1, .ref a1), (2, .int p1.1), (3, .int x4)]) [1, 2, 3, 0] dX3_known_18 rfl (by decide) rfl ?_
  refine zs_iload_n (pc := 19) 3 dX3_known_19 rfl rfl ?_
  refine zs_if_ge (pc := 20) (tgt := 29) dX3_known_20 (by decide) ?_ ?_
  · refine zs_aload_n (pc := 23) 0 dX3_known_23 rfl rfl ?_
    refine zs_iconst (pc := 24) (v := 4) dX3_known_24 rfl ?_
    refine zs_iload_n (pc := 25) 2 dX3_known_25 rfl rfl ?_
    refine zs_callVv (pc := 26) [.int 4, .int p1.1] [] (kp_X3_tell D Wd c hE hF p3.2 4 p1.1) wp_X3_tell q1031 zc_X3 ps_rcvP dX3_known_26 rfl rfl (Nat.le_of_ble_eq_true rfl) (Nat.le_of_ble_eq_true rfl) (fun M5 => ?_)
    refine zs_iload_n (pc := 29) 3 dX3_known_29 rfl rfl ?_
    exact zx_iret (pc := 30) dX3_known_30 rfl rfl rfl
  · refine zs_iload_n (pc := 29) 3 dX3_known_29 rfl rfl ?_
    exact zx_iret (pc := 30) dX3_known_30 rfl rfl rfl
theorem wp_X3_begins : zs_mV RX3 yX3_begins cX3_begins 3 none 2 := ⟨q775, qs17, q140, q776, by decide, by decide +kernel⟩
def gp_X3_begins (w : Nat → Nat) (c : Nat) (M : ps_S) (a1 : Int32) (a2 : Int32) : Option (Option Unit × ps_S) :=
if a1 = a2 then ((gp_X3_wrong w c M 2).bind fun p3 =>
some (none, p3.2))
else ((gp_X3_pass w c M).bind (zx_sel (fun M2 => (none, M2)) fun (p1 : Unit × ps_S) =>
some (some (), p1.2)))
set_option maxHeartbeats 4000000 in
theorem kp_X3_begins (D : zs_D) (Wd : cs_W) (c : Nat) (hE : D.2.2.2 1 = .ref (Wd.1 100)) (hF : D.2.2.2 4 = hp_v (Wd.1 101)) (M : ps_S) (a1 : Int32) (a2 : Int32) : zx_Con D (ps_R Wd c) ps_bd zs_eV yX3_begins cX3_begins 3 none 4 [.ref (c + 9), .int a1, .int a2] M (c + 1) (gp_X3_begins Wd.1 c M a1 a2) := by
  unfold gp_X3_begins
  refine zx_con (own := RX3) (nm := "begins") pl_X3 rfl rfl (Nat.le_of_ble_eq_true rfl) ?_
  refine zs_lv (lv' := [(0, .ref (c + 9)), (1, .int a1), (2, .int a2)]) rfl ?_
  refine zs_iload_n (pc := 0) 1 dX3_begins_0 rfl rfl ?_
  refine zs_iload_n (pc := 1) 2 dX3_begins_1 rfl rfl ?_
  refine zs_icmp_ne (pc := 2) (tgt := 11) dX3_begins_2 (by decide) ?_ ?_
  · refine zs_aload_n (pc := 5) 0 dX3_begins_5 rfl rfl ?_
    refine zs_iconst (pc := 6) (v := 2) dX3_begins_6 rfl ?_
    refine zs_callVwK (pc := 7) [.int 2] [] (kp_X3_wrong D Wd c hE hF M 2) wp_X3_wrong q712 zc_X3 ps_rcvP dX3_begins_7 rfl rfl (Nat.le_of_ble_eq_true rfl) (Nat.le_of_ble_eq_true rfl) (fun p3 => ?_)
    exact zx_throw (pc := 10) dX3_begins_10 rfl ps_fx
  · refine zs_aload_n (pc := 11) 0 dX3_begins_11 rfl rfl ?_
    refine zx_callVV (pc := 12) [] [] (kp_X3_pass D Wd c hE hF M) wp_X3_pass q728 zc_X3 ps_rcvP dX3_begins_12 rfl rfl (Nat.le_of_ble_eq_true rfl) (Nat.le_of_ble_eq_true rfl) (fun M2 => rfl) (fun p1 => ?_)
    exact zx_vret (pc := 15) dX3_begins_15 rfl rfl
theorem wp_X3_sum : zs_mV RX3 yX3_sum cX3_sum 3 (some (.object "HairRope$Sum")) 0 := ⟨q779, qs18, q140, q780, by decide, by decide +kernel⟩
theorem wp_X3_unit : zs_mV RX3 yX3_unit cX3_unit 2 (some (.object "HairRope$Sum")) 0 := ⟨q787, qs20, q140, q788, by decide, by decide +kernel⟩
def gp_X3_unit_B (w : Nat → Nat) (c : Nat) (rf : ps_S → Option (Option Nat × ps_S)) (M : ps_S) : Option (Option Nat × ps_S) :=
(gp_X3_sort w c M).bind (zx_sel (fun M2 => (none, M2)) fun (p1 : Int32 × ps_S) =>
if p1.1 = 1 then ((gp_X3_pass w c p1.2).bind (zx_sel (fun M24 => (none, M24)) fun (p23 : Unit × ps_S) =>
(ps_nw p23.2 (13, 1, fun k => defaultValue (tyX13 k)) 1).bind fun z25 =>
(gp_X2_number w c z25.2 ((z25.2.1.1 3 3) - 1)).bind fun x26 =>
(gp_X13_init w c z25.2 z25.1 x26).bind fun M27 =>
some (some z25.1, M27)))
else ((gp_X3_sort w c p1.2).bind (zx_sel (fun M4 => (none, M4)) fun (p3 : Int32 × ps_S) =>
zs_let (fun (p5 : Unit) => (gp_X3_isSign w c p3.2 40).bind fun b6 =>
if b6 = true then (if (p3.2.1.1 3 4) = 6 then ((gp_X3_wrong w c p3.2 2).bind fun p15 =>
some (none, p15.2))
else ((some (ps_sF p3.2 3 4 ((p3.2.1.1 3 4) + 1))).bind fun M7 =>
(gp_X3_pass w c M7).bind (zx_sel (fun M9 => (none, M9)) fun (p8 : Unit × ps_S) =>
(rf p8.2).bind (zx_sel (fun M11 => (none, M11)) fun (p10 : Nat × ps_S) =>
(gp_X3_sign w c p10.2 41).bind (zx_sel (fun M13 => (none, M13)) fun (p12 : Unit × ps_S) =>
(some (ps_sF p12.2 3 4 ((p12.2.1.1 3 4) - 1))).bind fun M14 =>
some (some p10.1, M14))))))
else ((gp_X3_wrong w c p3.2 1).bind fun p16 =>
some (none, p16.2))) fun J87 =>
if p3.1 = 3 then ((zs_ald 2001 (p3.2.1.2 2 6) (p3.2.1.1 3 3)).bind fun x17 =>
if x17 < 13 then (J87 ())
else ((gp_X3_pass w c p3.2).bind (zx_sel (fun M19 => (none, M19)) fun (p18 : Unit × ps_S) =>
(ps_nw p18.2 (14, 1, fun k => defaultValue (tyX14 k)) 1).bind fun z20 =>
(zs_ald 2001 (z20.2.1.2 2 6) ((z20.2.1.1 3 3) - 1)).bind fun x21 =>
(gp_X14_init w c z20.2 z20.1 (x21 - 13)).bind fun M22 =>
some (some z20.1, M22))))
else (J87 ()))))
set_option maxHeartbeats 4000000 in
theorem kp_X3_unit_B (D : zs_D) (Wd : cs_W) (c : Nat) (hE : D.2.2.2 1 = .ref (Wd.1 100)) (hF : D.2.2.2 4 = hp_v (Wd.1 101)) {dn : Nat} (hdn : 8 ≤ dn) (rf : ps_S → Option (Option Nat × ps_S)) (ih : ∀ M : ps_S, zx_Con D (ps_R Wd c) ps_bd zs_eR yX3_sum cX3_sum 3 (some (.object "HairRope$Sum")) dn [.ref (c + 9)] M (c + 1) (rf M)) (M : ps_S) : zx_Con D (ps_R Wd c) ps_bd zs_eR yX3_unit cX3_unit 2 (some (.object "HairRope$Sum")) (dn + 1) [.ref (c + 9)] M (c + 1) (gp_X3_unit_B Wd.1 c rf M) := by
  unfold gp_X3_unit_B
  refine zx_con (own := RX3) (nm := "unit") pl_X3 rfl rfl (Nat.le_of_ble_eq_true rfl) ?_
  refine zs_lv (lv' := [(0, .ref (c + 9))]) rfl ?_
  refine zs_aload_n (pc := 0) 0 dX3_unit_0 rfl rfl ?_
  refine zx_callVI (pc := 1) [] [] (kp_X3_sort D Wd c hE hF M) wp_X3_sort q708 zc_X3 ps_rcvP dX3_unit_1 rfl rfl (by omega) (Nat.le_of_ble_eq_true rfl) (fun M2 => rfl) (fun p1 => ?_)
  refine zs_iconst (pc := 4) (v := 1) dX3_unit_4 rfl ?_
  refine zs_icmp_ne (pc := 5) (tgt := 33) dX3_unit_5 (by decide) ?_ ?_
  · refine zs_aload_n (pc := 8) 0 dX3_unit_8 rfl rfl ?_
    refine zx_callVV (pc := 9) [] [] (kp_X3_pass D Wd c hE hF p1.2) wp_X3_pass q728 zc_X3 ps_rcvP dX3_unit_9 rfl rfl (by omega) (Nat.le_of_ble_eq_true rfl) (fun M24 => rfl) (fun p23 => ?_)
    refine ps_new (pc := 12) zc_X13 q789 q790 q158 dX3_unit_12 (fun z25 => ?_)
    refine zs_dup (pc := 15) dX3_unit_15 rfl ?_
    refine zs_aload_n (pc := 16) 0 dX3_unit_16 rfl rfl ?_
    refine ps_getr (pc := 17) 9 3 0 (v := .ref (c + 2)) ⟨⟨by decide, by decide⟩, rfl⟩ zc_X3 ⟨rfl, rfl⟩ (by decide) rfl rfl q318 dX3_unit_17 ?_
    refine zs_aload_n (pc := 20) 0 dX3_unit_20 rfl rfl ?_
    refine ps_geti (pc := 21) 9 3 3 ⟨⟨by decide, by decide⟩, rfl⟩ zc_X3 ⟨rfl, rfl⟩ (by decide) rfl q321 dX3_unit_21 ?_
    refine zs_iconst (pc := 24) (v := 1) dX3_unit_24 rfl ?_
    refine zs_isub (pc := 25) dX3_unit_25 ?_
    refine zs_callVrI (pc := 26) [.int ((z25.2.1.1 3 3) - 1)] [.ref z25.1, .ref z25.1] (kp_X2_number D Wd c hE hF z25.2 ((z25.2.1.1 3 3) - 1)) wp_X2_number q791 zc_X2 ps_rcvT dX3_unit_26 rfl rfl (by omega) (Nat.le_of_ble_eq_true rfl) (fun x26 => ?_)
    refine zs_callI0 (pc := 29) [.int x26] [.ref z25.1] (kp_X13_init D Wd c hE hF z25.2 z25.1 x26) wp_X13_init q795 dX3_unit_29 rfl rfl (by omega) (Nat.le_of_ble_eq_true rfl) (fun M27 _ => ?_)
    exact zx_aret (pc := 32) dX3_unit_32 rfl rfl (Or.inl ⟨_, rfl⟩) (Or.inr ⟨_, rfl⟩)
  · refine zs_aload_n (pc := 33) 0 dX3_unit_33 rfl rfl ?_
    refine zx_callVI (pc := 34) [] [] (kp_X3_sort D Wd c hE hF p1.2) wp_X3_sort q708 zc_X3 ps_rcvP dX3_unit_34 rfl rfl (by omega) (Nat.le_of_ble_eq_true rfl) (fun M4 => rfl) (fun p3 => ?_)
    refine zs_iconst (pc := 37) (v := 3) dX3_unit_37 rfl ?_
    refine zs_letJ (pc := 38) (fun (p5 : Unit) => p3.2) 87 (fun (p5 : Unit) => [(0, .ref (c + 9))]) (fun (p5 : Unit) => []) (fun p5 => ?_) (fun J87 h87 => ?_)
    · refine zs_aload_n (pc := 87) 0 dX3_unit_87 rfl rfl ?_
      refine zs_bipush (pc := 88) (v := 40) dX3_unit_88 (by decide) ?_
      refine zs_callVrB (pc := 90) [.int 40] [] (kp_X3_isSign D Wd c hE hF p3.2 40) wp_X3_isSign q765 zc_X3 ps_rcvP dX3_unit_90 rfl rfl (by omega) (Nat.le_of_ble_eq_true rfl) (fun b6 => ?_)
      refine zs_if_t (pc := 93) (tgt := 102) dX3_unit_93 (by decide) ?_ ?_
      · refine zs_aload_n (pc := 102) 0 dX3_unit_102 rfl rfl ?_
        refine ps_geti (pc := 103) 9 3 4 ⟨⟨by decide, by decide⟩, rfl⟩ zc_X3 ⟨rfl, rfl⟩ (by decide) rfl q322 dX3_unit_103 ?_
        refine zs_bipush (pc := 106) (v := 6) dX3_unit_106 (by decide) ?_
        refine zs_icmp_ne (pc := 108) (tgt := 117) dX3_unit_108 (by decide) ?_ ?_
        · refine zs_aload_n (pc := 111) 0 dX3_unit_111 rfl rfl ?_
          refine zs_iconst (pc := 112) (v := 2) dX3_unit_112 rfl ?_
          refine zs_callVwK (pc := 113) [.int 2] [] (kp_X3_wrong D Wd c hE hF p3.2 2) wp_X3_wrong q712 zc_X3 ps_rcvP dX3_unit_113 rfl rfl (by omega) (Nat.le_of_ble_eq_true rfl) (fun p15 => ?_)
          exact zx_throw (pc := 116) dX3_unit_116 rfl ps_fx
        · refine zs_aload_n (pc := 117) 0 dX3_unit_117 rfl rfl ?_
          refine zs_dup (pc := 118) dX3_unit_118 rfl ?_
          refine ps_geti (pc := 119) 9 3 4 ⟨⟨by decide, by decide⟩, rfl⟩ zc_X3 ⟨rfl, rfl⟩ (by decide) rfl q322 dX3_unit_119 ?_
          refine zs_iconst (pc := 122) (v := 1) dX3_unit_122 rfl ?_
          refine zs_iadd (pc := 123) dX3_unit_123 ?_
          refine ps_puti (pc := 124) 9 3 4 ⟨⟨by decide, by decide⟩, rfl⟩ zc_X3 ⟨rfl, rfl⟩ (by decide) rfl q322 rfl rfl rfl dX3_unit_124 (fun M7 => ?_)
          refine zs_aload_n (pc := 127) 0 dX3_unit_127 rfl rfl ?_
          refine zx_callVV (pc := 128) [] [] (kp_X3_pass D Wd c hE hF M7) wp_X3_pass q728 zc_X3 ps_rcvP dX3_unit_128 rfl rfl (by omega) (Nat.le_of_ble_eq_true rfl) (fun M9 => rfl) (fun p8 => ?_)
          refine zs_aload_n (pc := 131) 0 dX3_unit_131 rfl rfl ?_
          refine zx_callVR (pc := 132) [] [] (ih p8.2) wp_X3_sum q777 zc_X3 ps_rcvP dX3_unit_132 rfl rfl (by omega) (Nat.le_of_ble_eq_true rfl) (fun M11 => rfl) (fun p10 => ?_)
          refine zs_astore_n (pc := 135) (lv' := [(0, .ref (c + 9)), (1, .ref p10.1)]) [1, 0] dX3_unit_135 rfl (by decide) rfl ?_
          refine zs_aload_n (pc := 136) 0 dX3_unit_136 rfl rfl ?_
          refine zs_bipush (pc := 137) (v := 41) dX3_unit_137 (by decide) ?_
          refine zx_callVV (pc := 139) [.int 41] [] (kp_X3_sign D Wd c hE hF p10.2 41) wp_X3_sign q761 zc_X3 ps_rcvP dX3_unit_139 rfl rfl (by omega) (Nat.le_of_ble_eq_true rfl) (fun M13 => rfl) (fun p12 => ?_)
          refine zs_aload_n (pc := 142) 0 dX3_unit_142 rfl rfl ?_
          refine zs_dup (pc := 143) dX3_unit_143 rfl ?_
          refine ps_geti (pc := 144) 9 3 4 ⟨⟨by decide, by decide⟩, rfl⟩ zc_X3 ⟨rfl, rfl⟩ (by decide) rfl q322 dX3_unit_144 ?_
          refine zs_iconst (pc := 147) (v := 1) dX3_unit_147 rfl ?_
          refine zs_isub (pc := 148) dX3_unit_148 ?_
          refine ps_puti (pc := 149) 9 3 4 ⟨⟨by decide, by decide⟩, rfl⟩ zc_X3 ⟨rfl, rfl⟩ (by decide) rfl q322 rfl rfl rfl dX3_unit_149 (fun M14 => ?_)
          refine zs_aload_n (pc := 152) 1 dX3_unit_152 rfl rfl ?_
          exact zx_aret (pc := 153) dX3_unit_153 rfl rfl (Or.inl ⟨_, rfl⟩) (Or.inr ⟨_, rfl⟩)
      · refine zs_aload_n (pc := 96) 0 dX3_unit_96 rfl rfl ?_
        refine zs_iconst (pc := 97) (v := 1) dX3_unit_97 rfl ?_
        refine zs_callVwK (pc := 98) [.int 1] [] (kp_X3_wrong D Wd c hE hF p3.2 1) wp_X3_wrong q712 zc_X3 ps_rcvP dX3_unit_98 rfl rfl (by omega) (Nat.le_of_ble_eq_true rfl) (fun p16 => ?_)
        exact zx_throw (pc := 101) dX3_unit_101 rfl ps_fx
    · refine zs_icmp_ne (pc := 38) (tgt := 87) dX3_unit_38 (by decide) ?_ ?_
      · refine zs_aload_n (pc := 41) 0 dX3_unit_41 rfl rfl ?_
        refine ps_getr (pc := 42) 9 3 0 (v := .ref (c + 2)) ⟨⟨by decide, by decide⟩, rfl⟩ zc_X3 ⟨rfl, rfl⟩ (by decide) rfl rfl q318 dX3_unit_42 ?_
        refine ps_getr (pc := 45) 2 2 6 (v := .ref (c + 8)) ⟨⟨by decide, by decide⟩, rfl⟩ zc_X2 ⟨rfl, rfl⟩ (by decide) rfl rfl q292 dX3_unit_45 ?_
        refine zs_aload_n (pc := 48) 0 dX3_unit_48 rfl rfl ?_
        refine ps_geti (pc := 49) 9 3 3 ⟨⟨by decide, by decide⟩, rfl⟩ zc_X3 ⟨rfl, rfl⟩ (by decide) rfl q321 dX3_unit_49 ?_
        refine ps_fsald (pc := 52) 8 2 6 ⟨⟨by decide, by decide⟩, rfl, rfl, rfl⟩ dX3_unit_52 (fun x17 => ?_)
        refine zs_bipush (pc := 53) (v := 13) dX3_unit_53 (by decide) ?_
        refine zs_icmp_lt (pc := 55) (tgt := 87) dX3_unit_55 (by decide) ?_ ?_
        · exact h87 ()
        · refine zs_aload_n (pc := 58) 0 dX3_unit_58 rfl rfl ?_
          refine zx_callVV (pc := 59) [] [] (kp_X3_pass D Wd c hE hF p3.2) wp_X3_pass q728 zc_X3 ps_rcvP dX3_unit_59 rfl rfl (by omega) (Nat.le_of_ble_eq_true rfl) (fun M19 => rfl) (fun p18 => ?_)
          refine ps_new (pc := 62) zc_X14 q806 q807 q159 dX3_unit_62 (fun z20 => ?_)
          refine zs_dup (pc := 65) dX3_unit_65 rfl ?_
          refine zs_aload_n (pc := 66) 0 dX3_unit_66 rfl rfl ?_
          refine ps_getr (pc := 67) 9 3 0 (v := .ref (c + 2)) ⟨⟨by decide, by decide⟩, rfl⟩ zc_X3 ⟨rfl, rfl⟩ (by decide) rfl rfl q318 dX3_unit_67 ?_
          refine ps_getr (pc := 70) 2 2 6 (v := .ref (c + 8)) ⟨⟨by decide, by decide⟩, rfl⟩ zc_X2 ⟨rfl, rfl⟩ (by decide) rfl rfl q292 dX3_unit_70 ?_
          refine zs_aload_n (pc := 73) 0 dX3_unit_73 rfl rfl ?_
          refine ps_geti (pc := 74) 9 3 3 ⟨⟨by decide, by decide⟩, rfl⟩ zc_X3 ⟨rfl, rfl⟩ (by decide) rfl q321 dX3_unit_74 ?_
          refine zs_iconst (pc := 77) (v := 1) dX3_unit_77 rfl ?_
          refine zs_isub (pc := 78) dX3_unit_78 ?_
          refine ps_fsald (pc := 79) 8 2 6 ⟨⟨by decide, by decide⟩, rfl, rfl, rfl⟩ dX3_unit_79 (fun x21 => ?_)
          refine zs_bipush (pc := 80) (v := 13) dX3_unit_80 (by decide) ?_
          refine zs_isub (pc := 82) dX3_unit_82 ?_
          refine zs_callI0 (pc := 83) [.int (x21 - 13)] [.ref z20.1] (kp_X14_init D Wd c hE hF z20.2 z20.1 (x21 - 13)) wp_X14_init q808 dX3_unit_83 rfl rfl (by omega) (Nat.le_of_ble_eq_true rfl) (fun M22 _ => ?_)
          exact zx_aret (pc := 86) dX3_unit_86 rfl rfl (Or.inl ⟨_, rfl⟩) (Or.inr ⟨_, rfl⟩)
      · exact h87 ()
theorem wp_X3_part : zs_mV RX3 yX3_part cX3_part 3 (some (.object "HairRope$Sum")) 0 := ⟨q783, qs19, q140, q784, by decide, by decide +kernel⟩
def g_X3_part_L5 (w : Nat → Nat) (c : Nat) (rf : ps_S → Option (Option Nat × ps_S)) : (Nat × ps_S) → Option ((Nat × ps_S) ⊕ (Option Nat × ps_S)) := fun t5 =>
(gp_X3_isSign w c t5.2 42).bind fun b3 =>
zs_let (fun (p4 : Unit) => (zs_ald 2001 (t5.2.1.2 2 6) (t5.2.1.1 3 3)).bind fun x5 =>
(gp_X3_pass w c t5.2).bind (zx_sel (fun M7 => Sum.inr (none, M7)) fun (p6 : Unit × ps_S) =>
(ps_nw p6.2 (15, 3, fun k => defaultValue (tyX15 k)) 3).bind fun z8 =>
(gp_X3_unit_B w c rf z8.2).bind (zx_sel (fun M10 => Sum.inr (none, M10)) fun (p9 : Nat × ps_S) =>
(gp_X15_init w c p9.2 z8.1 x5 t5.1 p9.1).bind fun M11 =>
some (Sum.inl (z8.1, M11))))) fun J23 =>
if b3 = true then (J23 ())
else ((gp_X3_isSign w c t5.2 47).bind fun b12 =>
if b12 = true then (J23 ())
else (some (Sum.inr (some t5.1, t5.2))))
def gp_X3_part_B (w : Nat → Nat) (c : Nat) (rf : ps_S → Option (Option Nat × ps_S)) (M : ps_S) : Option (Option Nat × ps_S) :=
(gp_X3_unit_B w c rf M).bind (zx_sel (fun M2 => (none, M2)) fun (p1 : Nat × ps_S) =>
(zs_loop 5000 (g_X3_part_L5 w c rf) (p1.1, p1.2)).bind fun z => some z)
set_option maxHeartbeats 4000000 in
theorem kp_X3_part_B (D : zs_D) (Wd : cs_W) (c : Nat) (hE : D.2.2.2 1 = .ref (Wd.1 100)) (hF : D.2.2.2 4 = hp_v (Wd.1 101)) {dn : Nat} (hdn : 8 ≤ dn) (rf : ps_S → Option (Option Nat × ps_S)) (ih : ∀ M : ps_S, zx_Con D (ps_R Wd c) ps_bd zs_eR yX3_sum cX3_sum 3 (some (.object "HairRope$Sum")) dn [.ref (c + 9)] M (c + 1) (rf M)) (M : ps_S) : zx_Con D (ps_R Wd c) ps_bd zs_eR yX3_part cX3_part 3 (some (.object "HairRope$Sum")) (dn + 2) [.ref (c + 9)] M (c + 1) (gp_X3_part_B Wd.1 c rf M) := by
  unfold gp_X3_part_B
  refine zx_con (own := RX3) (nm := "part") pl_X3 rfl rfl (Nat.le_of_ble_eq_true rfl) ?_
  refine zs_lv (lv' := [(0, .ref (c + 9))]) rfl ?_
  refine zs_aload_n (pc := 0) 0 dX3_part_0 rfl rfl ?_
  refine zx_callVR (pc := 1) [] [] (kp_X3_unit_B D Wd c hE hF hdn rf ih M) wp_X3_unit q785 zc_X3 ps_rcvP dX3_part_1 rfl rfl (by omega) (Nat.le_of_ble_eq_true rfl) (fun M2 => rfl) (fun p1 => ?_)
  refine zs_astore_n (pc := 4) (lv' := [(0, .ref (c + 9)), (1, .ref p1.1)]) [1, 0] dX3_part_4 rfl (by decide) rfl ?_
  refine zs_whileX (pc := 5) (fun (t5 : Nat × ps_S) => t5.2) (fun (t5 : Nat × ps_S) => [(0, .ref (c + 9)), (1, .ref t5.1)]) 5000 (p1.1, p1.2) (fun X5 hL5 hR5 t5 => ?_)
  unfold g_X3_part_L5
  refine zs_aload_n (pc := 5) 0 dX3_part_5 rfl rfl ?_
  refine zs_bipush (pc := 6) (v := 42) dX3_part_6 (by decide) ?_
  refine zs_callVrB (pc := 8) [.int 42] [] (kp_X3_isSign D Wd c hE hF t5.2 42) wp_X3_isSign q765 zc_X3 ps_rcvP dX3_part_8 rfl rfl (by omega) (Nat.le_of_ble_eq_true rfl) (fun b3 => ?_)
  refine zs_letJ (pc := 11) (fun (p4 : Unit) => t5.2) 23 (fun (p4 : Unit) => [(0, .ref (c + 9)), (1, .ref t5.1)]) (fun (p4 : Unit) => []) (fun p4 => ?_) (fun J23 h23 => ?_)
  · refine zs_aload_n (pc := 23) 0 dX3_part_23 rfl rfl ?_
    refine ps_getr (pc := 24) 9 3 0 (v := .ref (c + 2)) ⟨⟨by decide, by decide⟩, rfl⟩ zc_X3 ⟨rfl, rfl⟩ (by decide) rfl rfl q318 dX3_part_24 ?_
    refine ps_getr (pc := 27) 2 2 6 (v := .ref (c + 8)) ⟨⟨by decide, by decide⟩, rfl⟩ zc_X2 ⟨rfl, rfl⟩ (by decide) rfl rfl q292 dX3_part_27 ?_
    refine zs_aload_n (pc := 30) 0 dX3_part_30 rfl rfl ?_
    refine ps_geti (pc := 31) 9 3 3 ⟨⟨by decide, by decide⟩, rfl⟩ zc_X3 ⟨rfl, rfl⟩ (by decide) rfl q321 dX3_part_31 ?_
    refine ps_fsald (pc := 34) 8 2 6 ⟨⟨by decide, by decide⟩, rfl, rfl, rfl⟩ dX3_part_34 (fun x5 => ?_)
    refine zs_istore_n (pc := 35) (lv' := [(0, .ref (c + 9)), (1, .ref t5.1), (2, .int x5)]) [1, 2, 0] dX3_part_35 rfl (by decide) rfl ?_
    refine zs_aload_n (pc := 36) 0 dX3_part_36 rfl rfl ?_
    refine zx_callVV (pc := 37) [] [] (kp_X3_pass D Wd c hE hF t5.2) wp_X3_pass q728 zc_X3 ps_rcvP dX3_part_37 rfl rfl (by omega) (Nat.le_of_ble_eq_true rfl) (fun M7 => ((hR5 _).trans rfl)) (fun p6 => ?_)
    refine ps_new (pc := 40) zc_X15 q816 q817 q160 dX3_part_40 (fun z8 => ?_)
    refine zs_dup (pc := 43) dX3_part_43 rfl ?_
    refine zs_iload_n (pc := 44) 2 dX3_part_44 rfl rfl ?_
    refine zs_aload_n (pc := 45) 1 dX3_part_45 rfl rfl ?_
    refine zs_aload_n (pc := 46) 0 dX3_part_46 rfl rfl ?_
    refine zx_callVR (pc := 47) [] [.ref t5.1, .int x5, .ref z8.1, .ref z8.1] (kp_X3_unit_B D Wd c hE hF hdn rf ih z8.2) wp_X3_unit q785 zc_X3 ps_rcvP dX3_part_47 rfl rfl (by omega) (Nat.le_of_ble_eq_true rfl) (fun M10 => ((hR5 _).trans rfl)) (fun p9 => ?_)
    refine zs_callI0 (pc := 50) [.int x5, .ref t5.1, .ref p9.1] [.ref z8.1] (kp_X15_init D Wd c hE hF p9.2 z8.1 x5 t5.1 p9.1) wp_X15_init q818 dX3_part_50 rfl rfl (by omega) (Nat.le_of_ble_eq_true rfl) (fun M11 _ => ?_)
    refine zs_astore_n (pc := 53) (lv' := [(0, .ref (c + 9)), (1, .ref z8.1), (2, .int x5)]) [1, 0, 2] dX3_part_53 rfl (by decide) rfl ?_
    refine zs_goto (pc := 54) (tgt := 5) dX3_part_54 (by decide) ?_
    refine zs_sub (lv' := [(0, .ref (c + 9)), (1, .ref z8.1)]) [0, 1] rfl ?_
    exact hL5 (z8.1, M11)
  · refine zs_if_t (pc := 11) (tgt := 23) dX3_part_11 (by decide) ?_ ?_
    · exact h23 ()
    · refine zs_aload_n (pc := 14) 0 dX3_part_14 rfl rfl ?_
      refine zs_bipush (pc := 15) (v := 47) dX3_part_15 (by decide) ?_
      refine zs_callVrB (pc := 17) [.int 47] [] (kp_X3_isSign D Wd c hE hF t5.2 47) wp_X3_isSign q765 zc_X3 ps_rcvP dX3_part_17 rfl rfl (by omega) (Nat.le_of_ble_eq_true rfl) (fun b12 => ?_)
      refine zs_if_f (pc := 20) (tgt := 57) dX3_part_20 (by decide) ?_ ?_
      · exact h23 ()
      · refine zs_aload_n (pc := 57) 1 dX3_part_57 rfl rfl ?_
        exact zx_aret (pc := 58) dX3_part_58 ((hR5 _).trans rfl) rfl (Or.inl ⟨_, rfl⟩) (Or.inr ⟨_, rfl⟩)
def g_X3_sum_L5 (w : Nat → Nat) (c : Nat) (rf : ps_S → Option (Option Nat × ps_S)) : (Nat × ps_S) → Option ((Nat × ps_S) ⊕ (Option Nat × ps_S)) := fun t5 =>
(gp_X3_isSign w c t5.2 43).bind fun b3 =>
zs_let (fun (p4 : Unit) => (zs_ald 2001 (t5.2.1.2 2 6) (t5.2.1.1 3 3)).bind fun x5 =>
(gp_X3_pass w c t5.2).bind (zx_sel (fun M7 => Sum.inr (none, M7)) fun (p6 : Unit × ps_S) =>
(ps_nw p6.2 (15, 3, fun k => defaultValue (tyX15 k)) 3).bind fun z8 =>
(gp_X3_part_B w c rf z8.2).bind (zx_sel (fun M10 => Sum.inr (none, M10)) fun (p9 : Nat × ps_S) =>
(gp_X15_init w c p9.2 z8.1 x5 t5.1 p9.1).bind fun M11 =>
some (Sum.inl (z8.1, M11))))) fun J23 =>
if b3 = true then (J23 ())
else ((gp_X3_isSign w c t5.2 45).bind fun b12 =>
if b12 = true then (J23 ())
else (some (Sum.inr (some t5.1, t5.2))))
def gp_X3_sum_B (w : Nat → Nat) (c : Nat) (rf : ps_S → Option (Option Nat × ps_S)) (M : ps_S) : Option (Option Nat × ps_S) :=
(gp_X3_part_B w c rf M).bind (zx_sel (fun M2 => (none, M2)) fun (p1 : Nat × ps_S) =>
(zs_loop 5000 (g_X3_sum_L5 w c rf) (p1.1, p1.2)).bind fun z => some z)
set_option maxHeartbeats 4000000 in
theorem kp_X3_sum_B (D : zs_D) (Wd : cs_W) (c : Nat) (hE : D.2.2.2 1 = .ref (Wd.1 100)) (hF : D.2.2.2 4 = hp_v (Wd.1 101)) {dn : Nat} (hdn : 8 ≤ dn) (rf : ps_S → Option (Option Nat × ps_S)) (ih : ∀ M : ps_S, zx_Con D (ps_R Wd c) ps_bd zs_eR yX3_sum cX3_sum 3 (some (.object "HairRope$Sum")) dn [.ref (c + 9)] M (c + 1) (rf M)) (M : ps_S) : zx_Con D (ps_R Wd c) ps_bd zs_eR yX3_sum cX3_sum 3 (some (.object "HairRope$Sum")) (dn + 3) [.ref (c + 9)] M (c + 1) (gp_X3_sum_B Wd.1 c rf M) := by
  unfold gp_X3_sum_B
  refine zx_con (own := RX3) (nm := "sum") pl_X3 rfl rfl (Nat.le_of_ble_eq_true rfl) ?_
  refine zs_lv (lv' := [(0, .ref (c + 9))]) rfl ?_
  refine zs_aload_n (pc := 0) 0 dX3_sum_0 rfl rfl ?_
  refine zx_callVR (pc := 1) [] [] (kp_X3_part_B D Wd c hE hF hdn rf ih M) wp_X3_part q781 zc_X3 ps_rcvP dX3_sum_1 rfl rfl (by omega) (Nat.le_of_ble_eq_true rfl) (fun M2 => rfl) (fun p1 => ?_)
  refine zs_astore_n (pc := 4) (lv' := [(0, .ref (c + 9)), (1, .ref p1.1)]) [1, 0] dX3_sum_4 rfl (by decide) rfl ?_
  refine zs_whileX (pc := 5) (fun (t5 : Nat × ps_S) => t5.2) (fun (t5 : Nat × ps_S) => [(0, .ref (c + 9)), (1, .ref t5.1)]) 5000 (p1.1, p1.2) (fun X5 hL5 hR5 t5 => ?_)
  unfold g_X3_sum_L5
  refine zs_aload_n (pc := 5) 0 dX3_sum_5 rfl rfl ?_
  refine zs_bipush (pc := 6) (v := 43) dX3_sum_6 (by decide) ?_
  refine zs_callVrB (pc := 8) [.int 43] [] (kp_X3_isSign D Wd c hE hF t5.2 43) wp_X3_isSign q765 zc_X3 ps_rcvP dX3_sum_8 rfl rfl (by omega) (Nat.le_of_ble_eq_true rfl) (fun b3 => ?_)
  refine zs_letJ (pc := 11) (fun (p4 : Unit) => t5.2) 23 (fun (p4 : Unit) => [(0, .ref (c + 9)), (1, .ref t5.1)]) (fun (p4 : Unit) => []) (fun p4 => ?_) (fun J23 h23 => ?_)
  · refine zs_aload_n (pc := 23) 0 dX3_sum_23 rfl rfl ?_
    refine ps_getr (pc := 24) 9 3 0 (v := .ref (c + 2)) ⟨⟨by decide, by decide⟩, rfl⟩ zc_X3 ⟨rfl, rfl⟩ (by decide) rfl rfl q318 dX3_sum_24 ?_
    refine ps_getr (pc := 27) 2 2 6 (v := .ref (c + 8)) ⟨⟨by decide, by decide⟩, rfl⟩ zc_X2 ⟨rfl, rfl⟩ (by decide) rfl rfl q292 dX3_sum_27 ?_
    refine zs_aload_n (pc := 30) 0 dX3_sum_30 rfl rfl ?_
    refine ps_geti (pc := 31) 9 3 3 ⟨⟨by decide, by decide⟩, rfl⟩ zc_X3 ⟨rfl, rfl⟩ (by decide) rfl q321 dX3_sum_31 ?_
    refine ps_fsald (pc := 34) 8 2 6 ⟨⟨by decide, by decide⟩, rfl, rfl, rfl⟩ dX3_sum_34 (fun x5 => ?_)
    refine zs_istore_n (pc := 35) (lv' := [(0, .ref (c + 9)), (1, .ref t5.1), (2, .int x5)]) [1, 2, 0] dX3_sum_35 rfl (by decide) rfl ?_
    refine zs_aload_n (pc := 36) 0 dX3_sum_36 rfl rfl ?_
    refine zx_callVV (pc := 37) [] [] (kp_X3_pass D Wd c hE hF t5.2) wp_X3_pass q728 zc_X3 ps_rcvP dX3_sum_37 rfl rfl (by omega) (Nat.le_of_ble_eq_true rfl) (fun M7 => ((hR5 _).trans rfl)) (fun p6 => ?_)
    refine ps_new (pc := 40) zc_X15 q816 q817 q160 dX3_sum_40 (fun z8 => ?_)
    refine zs_dup (pc := 43) dX3_sum_43 rfl ?_
    refine zs_iload_n (pc := 44) 2 dX3_sum_44 rfl rfl ?_
    refine zs_aload_n (pc := 45) 1 dX3_sum_45 rfl rfl ?_
    refine zs_aload_n (pc := 46) 0 dX3_sum_46 rfl rfl ?_
    refine zx_callVR (pc := 47) [] [.ref t5.1, .int x5, .ref z8.1, .ref z8.1] (kp_X3_part_B D Wd c hE hF hdn rf ih z8.2) wp_X3_part q781 zc_X3 ps_rcvP dX3_sum_47 rfl rfl (by omega) (Nat.le_of_ble_eq_true rfl) (fun M10 => ((hR5 _).trans rfl)) (fun p9 => ?_)
    refine zs_callI0 (pc := 50) [.int x5, .ref t5.1, .ref p9.1] [.ref z8.1] (kp_X15_init D Wd c hE hF p9.2 z8.1 x5 t5.1 p9.1) wp_X15_init q818 dX3_sum_50 rfl rfl (by omega) (Nat.le_of_ble_eq_true rfl) (fun M11 _ => ?_)
    refine zs_astore_n (pc := 53) (lv' := [(0, .ref (c + 9)), (1, .ref z8.1), (2, .int x5)]) [1, 0, 2] dX3_sum_53 rfl (by decide) rfl ?_
    refine zs_goto (pc := 54) (tgt := 5) dX3_sum_54 (by decide) ?_
    refine zs_sub (lv' := [(0, .ref (c + 9)), (1, .ref z8.1)]) [0, 1] rfl ?_
    exact hL5 (z8.1, M11)
  · refine zs_if_t (pc := 11) (tgt := 23) dX3_sum_11 (by decide) ?_ ?_
    · exact h23 ()
    · refine zs_aload_n (pc := 14) 0 dX3_sum_14 rfl rfl ?_
      refine zs_bipush (pc := 15) (v := 45) dX3_sum_15 (by decide) ?_
      refine zs_callVrB (pc := 17) [.int 45] [] (kp_X3_isSign D Wd c hE hF t5.2 45) wp_X3_isSign q765 zc_X3 ps_rcvP dX3_sum_17 rfl rfl (by omega) (Nat.le_of_ble_eq_true rfl) (fun b12 => ?_)
      refine zs_if_f (pc := 20) (tgt := 57) dX3_sum_20 (by decide) ?_ ?_
      · exact h23 ()
      · refine zs_aload_n (pc := 57) 1 dX3_sum_57 rfl rfl ?_
        exact zx_aret (pc := 58) dX3_sum_58 ((hR5 _).trans rfl) rfl (Or.inl ⟨_, rfl⟩) (Or.inr ⟨_, rfl⟩)
def gp_X3_sum (w : Nat → Nat) (c : Nat) : Nat → ps_S → Option (Option Nat × ps_S)
  | 0 => fun _ => none
  | n + 1 => gp_X3_sum_B w c (gp_X3_sum w c n)
theorem kp_X3_sum_A (D : zs_D) (Wd : cs_W) (c : Nat) (hE : D.2.2.2 1 = .ref (Wd.1 100)) (hF : D.2.2.2 4 = hp_v (Wd.1 101)) : ∀ (n : Nat) (M : ps_S), zx_Con D (ps_R Wd c) ps_bd zs_eR yX3_sum cX3_sum 3 (some (.object "HairRope$Sum")) (8 + 3 * n) [.ref (c + 9)] M (c + 1) (gp_X3_sum Wd.1 c n M) := by
  intro n
  induction n with
  | zero => intro M r M1 e; cases e
  | succ n ih => exact fun M => kp_X3_sum_B D Wd c hE hF (dn := 8 + 3 * n) (by omega) (gp_X3_sum Wd.1 c n) ih M
theorem wp_X3_law : zs_mV RX3 yX3_law cX3_law 2 (some (.object "HairRope$Law")) 0 := ⟨q734, qs13, q140, q735, by decide, by decide +kernel⟩
def g_X3_law_L14 (w : Nat → Nat) (c : Nat) (z1 : Nat × ps_S) : (ps_S) → Option ((ps_S) ⊕ ((ps_S) ⊕ (Option Nat × ps_S))) := fun t14 =>
(gp_X3_isWord w c t14 10).bind fun b5 =>
if b5 = true then ((ps_gI c t14 z1.1 11 4 3).bind fun x6 =>
(gp_X3_begins w c t14 x6 4).bind (zx_sel (fun M8 => Sum.inr (Sum.inr (none, M8))) fun (p7 : Unit × ps_S) =>
(ps_gR c p7.2 z1.1 11 4 0).bind fun y9 =>
(ps_gI c p7.2 z1.1 11 4 3).bind fun x10 =>
(gp_X3_sum w c 8 p7.2).bind (zx_sel (fun M12 => Sum.inr (Sum.inr (none, M12))) fun (p11 : Nat × ps_S) =>
(ps_ckS c p11.2 p11.1).bind fun _ => (ps_pA c p11.2 y9 6 x10 (.ref p11.1)).bind fun M13 =>
(gp_X3_sign w c M13 60).bind (zx_sel (fun M15 => Sum.inr (Sum.inr (none, M15))) fun (p14 : Unit × ps_S) =>
(ps_gR c p14.2 z1.1 11 4 1).bind fun y16 =>
(ps_gI c p14.2 z1.1 11 4 3).bind fun x17 =>
(gp_X3_sum w c 8 p14.2).bind (zx_sel (fun M19 => Sum.inr (Sum.inr (none, M19))) fun (p18 : Nat × ps_S) =>
(ps_ckS c p18.2 p18.1).bind fun _ => (ps_pA c p18.2 y16 6 x17 (.ref p18.1)).bind fun M20 =>
(gp_X3_word w c M20 11).bind (zx_sel (fun M22 => Sum.inr (Sum.inr (none, M22))) fun (p21 : Unit × ps_S) =>
(ps_gR c p21.2 z1.1 11 4 2).bind fun y23 =>
(ps_gI c p21.2 z1.1 11 4 3).bind fun x24 =>
(gp_X3_sum w c 8 p21.2).bind (zx_sel (fun M26 => Sum.inr (Sum.inr (none, M26))) fun (p25 : Nat × ps_S) =>
(ps_ckS c p25.2 p25.1).bind fun _ => (ps_pA c p25.2 y23 6 x24 (.ref p25.1)).bind fun M27 =>
(gp_X3_word w c M27 12).bind (zx_sel (fun M29 => Sum.inr (Sum.inr (none, M29))) fun (p28 : Unit × ps_S) =>
(ps_gI c p28.2 z1.1 11 4 3).bind fun x30 =>
(ps_pV c p28.2 z1.1 11 4 3 (.int (x30 + 1))).bind fun M31 =>
some (Sum.inl M31)))))))))
else (some (Sum.inr (Sum.inl t14)))
def gp_X3_law (w : Nat → Nat) (c : Nat) (M : ps_S) : Option (Option Nat × ps_S) :=
(ps_nw M (11, 4, fun k => defaultValue (tyX11 k)) 4).bind fun z1 =>
(gp_X11_init w c z1.2 z1.1).bind fun M2 =>
(gp_X3_sign w c M2 61).bind (zx_sel (fun M4 => (none, M4)) fun (p3 : Unit × ps_S) =>
(zs_loop 5000 (g_X3_law_L14 w c z1) p3.2).bind (Sum.elim (fun (r32 : ps_S) =>
(ps_gR c r32 z1.1 11 4 2).bind fun y33 =>
(ps_gI c r32 z1.1 11 4 3).bind fun x34 =>
(gp_X3_sum w c 8 r32).bind (zx_sel (fun M36 => (none, M36)) fun (p35 : Nat × ps_S) =>
(ps_ckS c p35.2 p35.1).bind fun _ => (ps_pA c p35.2 y33 6 x34 (.ref p35.1)).bind fun M37 =>
some (some z1.1, M37)))
 (fun z => some z)))
set_option maxHeartbeats 4000000 in
theorem kp_X3_law (D : zs_D) (Wd : cs_W) (c : Nat) (hE : D.2.2.2 1 = .ref (Wd.1 100)) (hF : D.2.2.2 4 = hp_v (Wd.1 101)) (M : ps_S) : zx_Con D (ps_R Wd c) ps_bd zs_eR yX3_law cX3_law 2 (some (.object "HairRope$Law")) 33 [.ref (c + 9)] M (c + 1) (gp_X3_law Wd.1 c M) := by
  unfold gp_X3_law
  refine zx_con (own := RX3) (nm := "law") pl_X3 rfl rfl (Nat.le_of_ble_eq_true rfl) ?_
  refine zs_lv (lv' := [(0, .ref (c + 9))]) rfl ?_
  refine ps_new (pc := 0) zc_X11 q736 q737 q156 dX3_law_0 (fun z1 => ?_)
  refine zs_dup (pc := 3) dX3_law_3 rfl ?_
  refine zs_callIN0 (pc := 4) [] [.ref z1.1] (kp_X11_init D Wd c hE hF z1.2 z1.1) wp_X11_init q738 dX3_law_4 rfl rfl (Nat.le_of_ble_eq_true rfl) (Nat.le_of_ble_eq_true rfl) (fun M2 _ => ?_)
  refine zs_astore_n (pc := 7) (lv' := [(0, .ref (c + 9)), (1, .ref z1.1)]) [1, 0] dX3_law_7 rfl (by decide) rfl ?_
  refine zs_aload_n (pc := 8) 0 dX3_law_8 rfl rfl ?_
  refine zs_bipush (pc := 9) (v := 61) dX3_law_9 (by decide) ?_
  refine zx_callVV (pc := 11) [.int 61] [] (kp_X3_sign D Wd c hE hF M2 61) wp_X3_sign q761 zc_X3 ps_rcvP dX3_law_11 rfl rfl (Nat.le_of_ble_eq_true rfl) (Nat.le_of_ble_eq_true rfl) (fun M4 => rfl) (fun p3 => ?_)
  refine zs_whileR (pc := 14) (fun (t14 : ps_S) => t14) (fun (t14 : ps_S) => [(0, .ref (c + 9)), (1, .ref z1.1)]) 5000 p3.2 (fun (r32 : ps_S) => r32) 102 (fun (r32 : ps_S) => [(0, .ref (c + 9)), (1, .ref z1.1)]) [] (fun r32 => ?_) (fun X14 hL14 hE14 hR14 t14 => ?_)
  · refine zs_aload_n (pc := 102) 1 dX3_law_102 rfl rfl ?_
    refine ps_dR (pc := 103) (ci := 11) (k := 2) zc_X11 (by decide) q749 dX3_law_103 (fun y33 => ?_)
    refine zs_aload_n (pc := 106) 1 dX3_law_106 rfl rfl ?_
    refine ps_dI (pc := 107) (ci := 11) (k := 3) zc_X11 (by decide) q751 dX3_law_107 (fun x34 => ?_)
    refine zs_aload_n (pc := 110) 0 dX3_law_110 rfl rfl ?_
    refine zx_callVR (pc := 111) [] [.int x34, .ref y33] (kp_X3_sum_A D Wd c hE hF 8 r32) wp_X3_sum q777 zc_X3 ps_rcvP dX3_law_111 rfl rfl (Nat.le_of_ble_eq_true rfl) (Nat.le_of_ble_eq_true rfl) (fun M36 => rfl) (fun p35 => ?_)
    refine ps_aastS (pc := 114) dX3_law_114 (fun M37 => ?_)
    refine zs_aload_n (pc := 115) 1 dX3_law_115 rfl rfl ?_
    exact zx_aret (pc := 116) dX3_law_116 rfl rfl (Or.inl ⟨_, rfl⟩) (Or.inr ⟨_, rfl⟩)
  · unfold g_X3_law_L14
    refine zs_aload_n (pc := 14) 0 dX3_law_14 rfl rfl ?_
    refine zs_bipush (pc := 15) (v := 10) dX3_law_15 (by decide) ?_
    refine zs_callVrB (pc := 17) [.int 10] [] (kp_X3_isWord D Wd c hE hF t14 10) wp_X3_isWord q769 zc_X3 ps_rcvP dX3_law_17 rfl rfl (Nat.le_of_ble_eq_true rfl) (Nat.le_of_ble_eq_true rfl) (fun b5 => ?_)
    refine zs_if_f (pc := 20) (tgt := 102) dX3_law_20 (by decide) ?_ ?_
    · refine zs_aload_n (pc := 23) 0 dX3_law_23 rfl rfl ?_
      refine zs_aload_n (pc := 24) 1 dX3_law_24 rfl rfl ?_
      refine ps_dI (pc := 25) (ci := 11) (k := 3) zc_X11 (by decide) q751 dX3_law_25 (fun x6 => ?_)
      refine zs_iconst (pc := 28) (v := 4) dX3_law_28 rfl ?_
      refine zx_callVV (pc := 29) [.int x6, .int 4] [] (kp_X3_begins D Wd c hE hF t14 x6 4) wp_X3_begins q773 zc_X3 ps_rcvP dX3_law_29 rfl rfl (Nat.le_of_ble_eq_true rfl) (Nat.le_of_ble_eq_true rfl) (fun M8 => ((hR14 _).trans rfl)) (fun p7 => ?_)
      refine zs_aload_n (pc := 32) 1 dX3_law_32 rfl rfl ?_
      refine ps_dR (pc := 33) (ci := 11) (k := 0) zc_X11 (by decide) q745 dX3_law_33 (fun y9 => ?_)
      refine zs_aload_n (pc := 36) 1 dX3_law_36 rfl rfl ?_
      refine ps_dI (pc := 37) (ci := 11) (k := 3) zc_X11 (by decide) q751 dX3_law_37 (fun x10 => ?_)
      refine zs_aload_n (pc := 40) 0 dX3_law_40 rfl rfl ?_
      refine zx_callVR (pc := 41) [] [.int x10, .ref y9] (kp_X3_sum_A D Wd c hE hF 8 p7.2) wp_X3_sum q777 zc_X3 ps_rcvP dX3_law_41 rfl rfl (Nat.le_of_ble_eq_true rfl) (Nat.le_of_ble_eq_true rfl) (fun M12 => ((hR14 _).trans rfl)) (fun p11 => ?_)
      refine ps_aastS (pc := 44) dX3_law_44 (fun M13 => ?_)
      refine zs_aload_n (pc := 45) 0 dX3_law_45 rfl rfl ?_
      refine zs_bipush (pc := 46) (v := 60) dX3_law_46 (by decide) ?_
      refine zx_callVV (pc := 48) [.int 60] [] (kp_X3_sign D Wd c hE hF M13 60) wp_X3_sign q761 zc_X3 ps_rcvP dX3_law_48 rfl rfl (Nat.le_of_ble_eq_true rfl) (Nat.le_of_ble_eq_true rfl) (fun M15 => ((hR14 _).trans rfl)) (fun p14 => ?_)
      refine zs_aload_n (pc := 51) 1 dX3_law_51 rfl rfl ?_
      refine ps_dR (pc := 52) (ci := 11) (k := 1) zc_X11 (by decide) q747 dX3_law_52 (fun y16 => ?_)
      refine zs_aload_n (pc := 55) 1 dX3_law_55 rfl rfl ?_
      refine ps_dI (pc := 56) (ci := 11) (k := 3) zc_X11 (by decide) q751 dX3_law_56 (fun x17 => ?_)
      refine zs_aload_n (pc := 59) 0 dX3_law_59 rfl rfl ?_
      refine zx_callVR (pc := 60) [] [.int x17, .ref y16] (kp_X3_sum_A D Wd c hE hF 8 p14.2) wp_X3_sum q777 zc_X3 ps_rcvP dX3_law_60 rfl rfl (Nat.le_of_ble_eq_true rfl) (Nat.le_of_ble_eq_true rfl) (fun M19 => ((hR14 _).trans rfl)) (fun p18 => ?_)
      refine ps_aastS (pc := 63) dX3_law_63 (fun M20 => ?_)
      refine zs_aload_n (pc := 64) 0 dX3_law_64 rfl rfl ?_
      refine zs_bipush (pc := 65) (v := 11) dX3_law_65 (by decide) ?_
      refine zx_callVV (pc := 67) [.int 11] [] (kp_X3_word D Wd c hE hF M20 11) wp_X3_word q832 zc_X3 ps_rcvP dX3_law_67 rfl rfl (Nat.le_of_ble_eq_true rfl) (Nat.le_of_ble_eq_true rfl) (fun M22 => ((hR14 _).trans rfl)) (fun p21 => ?_)
      refine zs_aload_n (pc := 70) 1 dX3_law_70 rfl rfl ?_
      refine ps_dR (pc := 71) (ci := 11) (k := 2) zc_X11 (by decide) q749 dX3_law_71 (fun y23 => ?_)
      refine zs_aload_n (pc := 74) 1 dX3_law_74 rfl rfl ?_
      refine ps_dI (pc := 75) (ci := 11) (k := 3) zc_X11 (by decide) q751 dX3_law_75 (fun x24 => ?_)
      refine zs_aload_n (pc := 78) 0 dX3_law_78 rfl rfl ?_
      refine zx_callVR (pc := 79) [] [.int x24, .ref y23] (kp_X3_sum_A D Wd c hE hF 8 p21.2) wp_X3_sum q777 zc_X3 ps_rcvP dX3_law_79 rfl rfl (Nat.le_of_ble_eq_true rfl) (Nat.le_of_ble_eq_true rfl) (fun M26 => ((hR14 _).trans rfl)) (fun p25 => ?_)
      refine ps_aastS (pc := 82) dX3_law_82 (fun M27 => ?_)
      refine zs_aload_n (pc := 83) 0 dX3_law_83 rfl rfl ?_
      refine zs_bipush (pc := 84) (v := 12) dX3_law_84 (by decide) ?_
      refine zx_callVV (pc := 86) [.int 12] [] (kp_X3_word D Wd c hE hF M27 12) wp_X3_word q832 zc_X3 ps_rcvP dX3_law_86 rfl rfl (Nat.le_of_ble_eq_true rfl) (Nat.le_of_ble_eq_true rfl) (fun M29 => ((hR14 _).trans rfl)) (fun p28 => ?_)
      refine zs_aload_n (pc := 89) 1 dX3_law_89 rfl rfl ?_
      refine zs_dup (pc := 90) dX3_law_90 rfl ?_
      refine ps_dI (pc := 91) (ci := 11) (k := 3) zc_X11 (by decide) q751 dX3_law_91 (fun x30 => ?_)
      refine zs_iconst (pc := 94) (v := 1) dX3_law_94 rfl ?_
      refine zs_iadd (pc := 95) dX3_law_95 ?_
      refine ps_put (pc := 96) (ci := 11) (k := 3) zc_X11 (by decide) q751 rfl rfl rfl dX3_law_96 (fun M31 => ?_)
      refine zs_goto (pc := 99) (tgt := 14) dX3_law_99 (by decide) ?_
      exact hL14 M31
    · exact hE14 t14
theorem wp_X3_told : zs_mV RX3 yX3_told cX3_told 6 none 0 := ⟨q726, qs11, q140, q727, by decide, by decide +kernel⟩
def gp_X3_told (w : Nat → Nat) (c : Nat) (M : ps_S) : Option (Option Unit × ps_S) :=
(gp_X3_sort w c M).bind (zx_sel (fun M2 => (none, M2)) fun (p1 : Int32 × ps_S) =>
(if p1.1 = 3 then ((zs_ald 2001 (p1.2.1.2 2 6) (p1.2.1.1 3 3)).bind fun x87 =>
some x87)
else (some (-1))).bind fun (p3 : Int32) =>
zs_let (fun (p4 : Unit) => if p3 = 0 then ((ps_tx p1.2).bind fun y5 =>
(ps_gR c p1.2 y5 4 8 0).bind fun y6 =>
(ps_ck c p1.2 y6 17).bind fun _ =>
(gp_J5_size w c p1.2 y6).bind fun x8 =>
(gp_X3_begins w c p1.2 x8 6).bind (zx_sel (fun M10 => (none, M10)) fun (p9 : Unit × ps_S) =>
(ps_nw p9.2 (16, 3, fun k => defaultValue (tyX16 k)) 3).bind fun z11 =>
(gp_X3_name w c z11.2).bind (zx_sel (fun M13 => (none, M13)) fun (p12 : Nat × ps_S) =>
(gp_X16_init w c p12.2 z11.1 p12.1).bind fun M14 =>
(gp_X3_number w c M14 0 20).bind (zx_sel (fun M16 => (none, M16)) fun (p15 : Int32 × ps_S) =>
(ps_pV c p15.2 z11.1 16 3 1 (.int p15.1)).bind fun M17 =>
(gp_X3_number w c M17 1 99).bind (zx_sel (fun M19 => (none, M19)) fun (p18 : Int32 × ps_S) =>
(ps_pV c p18.2 z11.1 16 3 2 (.int p18.1)).bind fun M20 =>
(ps_tx M20).bind fun y21 =>
(ps_gR c M20 y21 4 8 0).bind fun y22 =>
(ps_ck c M20 y22 17).bind fun _ =>
(gp_J5_add w c M20 y22 z11.1).bind fun p24 =>
some (some (), p24.2))))))
else if p3 = 1 then ((ps_tx p1.2).bind fun y25 =>
(ps_gI c p1.2 y25 4 8 3).bind fun x26 =>
(gp_X3_begins w c p1.2 x26 20).bind (zx_sel (fun M28 => (none, M28)) fun (p27 : Unit × ps_S) =>
(ps_tx p27.2).bind fun y29 =>
(ps_gR c p27.2 y29 4 8 0).bind fun y30 =>
(gp_X3_known w c p27.2 y30).bind (zx_sel (fun M32 => (none, M32)) fun (p31 : Int32 × ps_S) =>
(some (p31.2.1.1 3 3)).bind fun x33 =>
(ps_tx p31.2).bind fun y34 =>
(ps_gR c p31.2 y34 4 8 0).bind fun y35 =>
(gp_X3_known w c p31.2 y35).bind (zx_sel (fun M37 => (none, M37)) fun (p36 : Int32 × ps_S) =>
(if p31.1 < 0 then (some p36.2)
else (if p31.1 = p36.1 then ((gp_X3_tell w c p36.2 3 x33).bind fun M54 =>
some M54)
else (some p36.2))).bind fun (p38 : ps_S) =>
(gp_X3_number w c p38 0 9).bind (zx_sel (fun M40 => (none, M40)) fun (p39 : Int32 × ps_S) =>
(if p31.1 < 0 then (some p39.2)
else (if p36.1 < 0 then (some p39.2)
else ((ps_tx p39.2).bind fun y50 =>
(ps_gR c p39.2 y50 4 8 2).bind fun y51 =>
(ps_aR c p39.2 y51 10 p31.1).bind fun y52 =>
(ps_pA c p39.2 y52 0 p36.1 (.int p39.1)).bind fun M53 =>
some M53))).bind fun (p41 : ps_S) =>
(if p31.1 < 0 then (some p41)
else (if p36.1 < 0 then (some p41)
else ((ps_tx p41).bind fun y46 =>
(ps_gR c p41 y46 4 8 2).bind fun y47 =>
(ps_aR c p41 y47 10 p36.1).bind fun y48 =>
(ps_pA c p41 y48 0 p31.1 (.int p39.1)).bind fun M49 =>
some M49))).bind fun (p42 : ps_S) =>
(ps_tx p42).bind fun y43 =>
(ps_gI c p42 y43 4 8 3).bind fun x44 =>
(ps_pV c p42 y43 4 8 3 (.int (x44 + 1))).bind fun M45 =>
some (some (), M45))))))
else if p3 = 2 then ((gp_X3_pass w c p1.2).bind (zx_sel (fun M56 => (none, M56)) fun (p55 : Unit × ps_S) =>
(ps_tx p55.2).bind fun y57 =>
(gp_X3_number w c p55.2 1 99).bind (zx_sel (fun M59 => (none, M59)) fun (p58 : Int32 × ps_S) =>
(ps_pV c p58.2 y57 4 8 4 (.int p58.1)).bind fun M60 =>
some (some (), M60))))
else if p3 = 3 then ((gp_X3_pass w c p1.2).bind (zx_sel (fun M62 => (none, M62)) fun (p61 : Unit × ps_S) =>
(ps_tx p61.2).bind fun y63 =>
(gp_X3_number w c p61.2 0 99).bind (zx_sel (fun M65 => (none, M65)) fun (p64 : Int32 × ps_S) =>
(ps_pV c p64.2 y63 4 8 5 (.int p64.1)).bind fun M66 =>
some (some (), M66))))
else if p3 = 8 then ((gp_X3_pass w c p1.2).bind (zx_sel (fun M68 => (none, M68)) fun (p67 : Unit × ps_S) =>
(ps_tx p67.2).bind fun y69 =>
(gp_X3_number w c p67.2 0 100).bind (zx_sel (fun M71 => (none, M71)) fun (p70 : Int32 × ps_S) =>
(ps_pV c p70.2 y69 4 8 6 (.int p70.1)).bind fun M72 =>
some (some (), M72))))
else if p3 = 9 then ((gp_X3_pass w c p1.2).bind (zx_sel (fun M74 => (none, M74)) fun (p73 : Unit × ps_S) =>
(ps_tx p73.2).bind fun y75 =>
(gp_X3_number w c p73.2 0 9999).bind (zx_sel (fun M77 => (none, M77)) fun (p76 : Int32 × ps_S) =>
(ps_pV c p76.2 y75 4 8 7 (.int p76.1)).bind fun M78 =>
some (some (), M78))))
else ((gp_X3_wrong w c p1.2 1).bind fun p79 =>
some (none, p79.2))) fun J56 =>
if p3 < 4 then (J56 ())
else (if 7 < p3 then (J56 ())
else ((gp_X3_pass w c p1.2).bind (zx_sel (fun M81 => (none, M81)) fun (p80 : Unit × ps_S) =>
(ps_tx p80.2).bind fun y82 =>
(ps_gR c p80.2 y82 4 8 1).bind fun y83 =>
(gp_X3_law w c p80.2).bind (zx_sel (fun M85 => (none, M85)) fun (p84 : Nat × ps_S) =>
(ps_ck c p84.2 p84.1 11).bind fun _ => (ps_pA c p84.2 y83 5 (p3 - 4) (.ref p84.1)).bind fun M86 =>
some (some (), M86))))))
set_option maxHeartbeats 4000000 in
theorem kp_X3_told (D : zs_D) (Wd : cs_W) (c : Nat) (hE : D.2.2.2 1 = .ref (Wd.1 100)) (hF : D.2.2.2 4 = hp_v (Wd.1 101)) (M : ps_S) : zx_Con D (ps_R Wd c) ps_bd zs_eV yX3_told cX3_told 6 none 34 [.ref (c + 9)] M (c + 1) (gp_X3_told Wd.1 c M) := by
  unfold gp_X3_told
  refine zx_con (own := RX3) (nm := "told") pl_X3 rfl rfl (Nat.le_of_ble_eq_true rfl) ?_
  refine zs_lv (lv' := [(0, .ref (c + 9))]) rfl ?_
  refine zs_aload_n (pc := 0) 0 dX3_told_0 rfl rfl ?_
  refine zx_callVI (pc := 1) [] [] (kp_X3_sort D Wd c hE hF M) wp_X3_sort q708 zc_X3 ps_rcvP dX3_told_1 rfl rfl (Nat.le_of_ble_eq_true rfl) (Nat.le_of_ble_eq_true rfl) (fun M2 => rfl) (fun p1 => ?_)
  refine zs_iconst (pc := 4) (v := 3) dX3_told_4 rfl ?_
  refine zs_join (pc := 5) (fun (p3 : Int32) => p1.2) 24 (fun (p3 : Int32) => [(0, .ref (c + 9))]) (fun (p3 : Int32) => [.int p3]) (fun p3 => ?_) (fun h24 => ?_)
  · refine zs_istore_n (pc := 24) (lv' := [(0, .ref (c + 9)), (1, .int p3)]) [1, 0] dX3_told_24 rfl (by decide) rfl ?_
    refine zs_iload_n (pc := 25) 1 dX3_told_25 rfl rfl ?_
    refine zs_iconst (pc := 26) (v := 4) dX3_told_26 rfl ?_
    refine zs_letJ (pc := 27) (fun (p4 : Unit) => p1.2) 56 (fun (p4 : Unit) => [(0, .ref (c + 9)), (1, .int p3)]) (fun (p4 : Unit) => []) (fun p4 => ?_) (fun J56 h56 => ?_)
    · refine zs_iload_n (pc := 56) 1 dX3_told_56 rfl rfl ?_
      refine zs_tsw (pc := 57) [(0, 112), (1, 177), (2, 307), (3, 328), (8, 349), (9, 370)] 392 dX3_told_57 (by decide +kernel) ?_
      refine zs_case ?_ ?_
      · refine zs_aload_n (pc := 112) 0 dX3_told_112 rfl rfl ?_
        refine zs_aload_n (pc := 113) 0 dX3_told_113 rfl rfl ?_
        refine ps_getT (pc := 114) q320 dX3_told_114 (fun y5 => ?_)
        refine ps_dR (pc := 117) (ci := 4) (k := 0) zc_X4 (by decide) q379 dX3_told_117 (fun y6 => ?_)
        refine ps_ckr (pc := 120) (a := y6) (ci := 17) (fun hc7 => ?_)
        refine zs_callVrI (pc := 120) [] [.ref (c + 9)] (kp_J5_size D Wd c hE hF p1.2 y6) wp_J5_size q836 zc_J5 hc7 dX3_told_120 rfl rfl (Nat.le_of_ble_eq_true rfl) (Nat.le_of_ble_eq_true rfl) (fun x8 => ?_)
        refine zs_bipush (pc := 123) (v := 6) dX3_told_123 (by decide) ?_
        refine zx_callVV (pc := 125) [.int x8, .int 6] [] (kp_X3_begins D Wd c hE hF p1.2 x8 6) wp_X3_begins q773 zc_X3 ps_rcvP dX3_told_125 rfl rfl (Nat.le_of_ble_eq_true rfl) (Nat.le_of_ble_eq_true rfl) (fun M10 => rfl) (fun p9 => ?_)
        refine ps_new (pc := 128) zc_X16 q837 q838 q161 dX3_told_128 (fun z11 => ?_)
        refine zs_dup (pc := 131) dX3_told_131 rfl ?_
        refine zs_aload_n (pc := 132) 0 dX3_told_132 rfl rfl ?_
        refine zx_callVR (pc := 133) [] [.ref z11.1, .ref z11.1] (kp_X3_name D Wd c hE hF z11.2) wp_X3_name q839 zc_X3 ps_rcvP dX3_told_133 rfl rfl (Nat.le_of_ble_eq_true rfl) (Nat.le_of_ble_eq_true rfl) (fun M13 => rfl) (fun p12 => ?_)
        refine zs_callI0 (pc := 136) [.ref p12.1] [.ref z11.1] (kp_X16_init D Wd c hE hF p12.2 z11.1 p12.1) wp_X16_init q1035 dX3_told_136 rfl rfl (Nat.le_of_ble_eq_true rfl) (Nat.le_of_ble_eq_true rfl) (fun M14 _ => ?_)
        refine zs_astore_n (pc := 139) (lv' := [(0, .ref (c + 9)), (1, .int p3), (2, .ref z11.1)]) [1, 2, 0] dX3_told_139 rfl (by decide) rfl ?_
        refine zs_aload_n (pc := 140) 2 dX3_told_140 rfl rfl ?_
        refine zs_aload_n (pc := 141) 0 dX3_told_141 rfl rfl ?_
        refine zs_iconst (pc := 142) (v := 0) dX3_told_142 rfl ?_
        refine zs_bipush (pc := 143) (v := 20) dX3_told_143 (by decide) ?_
        refine zx_callVI (pc := 145) [.int 0, .int 20] [.ref z11.1] (kp_X3_number D Wd c hE hF M14 0 20) wp_X3_number q1053 zc_X3 ps_rcvP dX3_told_145 rfl rfl (Nat.le_of_ble_eq_true rfl) (Nat.le_of_ble_eq_true rfl) (fun M16 => rfl) (fun p15 => ?_)
        refine ps_put (pc := 148) (ci := 16) (k := 1) zc_X16 (by decide) q1042 rfl rfl rfl dX3_told_148 (fun M17 => ?_)
        refine zs_aload_n (pc := 151) 2 dX3_told_151 rfl rfl ?_
        refine zs_aload_n (pc := 152) 0 dX3_told_152 rfl rfl ?_
        refine zs_iconst (pc := 153) (v := 1) dX3_told_153 rfl ?_
        refine zs_bipush (pc := 154) (v := 99) dX3_told_154 (by decide) ?_
        refine zx_callVI (pc := 156) [.int 1, .int 99] [.ref z11.1] (kp_X3_number D Wd c hE hF M17 1 99) wp_X3_number q1053 zc_X3 ps_rcvP dX3_told_156 rfl rfl (Nat.le_of_ble_eq_true rfl) (Nat.le_of_ble_eq_true rfl) (fun M19 => rfl) (fun p18 => ?_)
        refine ps_put (pc := 159) (ci := 16) (k := 2) zc_X16 (by decide) q1045 rfl rfl rfl dX3_told_159 (fun M20 => ?_)
        refine zs_aload_n (pc := 162) 0 dX3_told_162 rfl rfl ?_
        refine ps_getT (pc := 163) q320 dX3_told_163 (fun y21 => ?_)
        refine ps_dR (pc := 166) (ci := 4) (k := 0) zc_X4 (by decide) q379 dX3_told_166 (fun y22 => ?_)
        refine zs_aload_n (pc := 169) 2 dX3_told_169 rfl rfl ?_
        refine ps_ckr (pc := 170) (a := y22) (ci := 17) (fun hc23 => ?_)
        refine zs_callVwB (pc := 170) [.ref z11.1] [] (kp_J5_add D Wd c hE hF M20 y22 z11.1) wp_J5_add q1057 zc_J5 hc23 dX3_told_170 rfl rfl (Nat.le_of_ble_eq_true rfl) (Nat.le_of_ble_eq_true rfl) (fun p24 => ?_)
        refine zs_pop (pc := 173) dX3_told_173 rfl ?_
        refine zs_goto (pc := 174) (tgt := 398) dX3_told_174 (by decide) ?_
        exact zx_vret (pc := 398) dX3_told_398 rfl rfl
      refine zs_case ?_ ?_
      · refine zs_aload_n (pc := 177) 0 dX3_told_177 rfl rfl ?_
        refine zs_aload_n (pc := 178) 0 dX3_told_178 rfl rfl ?_
        refine ps_getT (pc := 179) q320 dX3_told_179 (fun y25 => ?_)
        refine ps_dI (pc := 182) (ci := 4) (k := 3) zc_X4 (by decide) q387 dX3_told_182 (fun x26 => ?_)
        refine zs_bipush (pc := 185) (v := 20) dX3_told_185 (by decide) ?_
        refine zx_callVV (pc := 187) [.int x26, .int 20] [] (kp_X3_begins D Wd c hE hF p1.2 x26 20) wp_X3_begins q773 zc_X3 ps_rcvP dX3_told_187 rfl rfl (Nat.le_of_ble_eq_true rfl) (Nat.le_of_ble_eq_true rfl) (fun M28 => rfl) (fun p27 => ?_)
        refine zs_aload_n (pc := 190) 0 dX3_told_190 rfl rfl ?_
        refine zs_aload_n (pc := 191) 0 dX3_told_191 rfl rfl ?_
        refine ps_getT (pc := 192) q320 dX3_told_192 (fun y29 => ?_)
        refine ps_dR (pc := 195) (ci := 4) (k := 0) zc_X4 (by decide) q379 dX3_told_195 (fun y30 => ?_)
        refine zx_callVI (pc := 198) [.ref y30] [] (kp_X3_known D Wd c hE hF p27.2 y30) wp_X3_known q1107 zc_X3 ps_rcvP dX3_told_198 rfl rfl (Nat.le_of_ble_eq_true rfl) (Nat.le_of_ble_eq_true rfl) (fun M32 => rfl) (fun p31 => ?_)
        refine zs_istore_n (pc := 201) (lv' := [(0, .ref (c + 9)), (1, .int p3), (2, .int p31.1)]) [1, 2, 0] dX3_told_201 rfl (by decide) rfl ?_
        refine zs_aload_n (pc := 202) 0 dX3_told_202 rfl rfl ?_
        refine ps_geti (pc := 203) 9 3 3 ⟨⟨by decide, by decide⟩, rfl⟩ zc_X3 ⟨rfl, rfl⟩ (by decide) rfl q321 dX3_told_203 ?_
        refine zs_nm (fun x33 => ?_)
        refine zs_istore_n (pc := 206) (lv' := [(0, .ref (c + 9)), (1, .int p3), (2, .int p31.1), (3, .int x33)]) [1, 2, 3, 0] dX3_told_206 rfl (by decide) rfl ?_
        refine zs_aload_n (pc := 207) 0 dX3_told_207 rfl rfl ?_
        refine zs_aload_n (pc := 208) 0 dX3_told_208 rfl rfl ?_
        refine ps_getT (pc := 209) q320 dX3_told_209 (fun y34 => ?_)
        refine ps_dR (pc := 212) (ci := 4) (k := 0) zc_X4 (by decide) q379 dX3_told_212 (fun y35 => ?_)
        refine zx_callVI (pc := 215) [.ref y35] [] (kp_X3_known D Wd c hE hF p31.2 y35) wp_X3_known q1107 zc_X3 ps_rcvP dX3_told_215 rfl rfl (Nat.le_of_ble_eq_true rfl) (Nat.le_of_ble_eq_true rfl) (fun M37 => rfl) (fun p36 => ?_)
        refine zs_istore (pc := 218) (lv' := [(0, .ref (c + 9)), (1, .int p3), (2, .int p31.1), (3, .int x33), (4, .int p36.1)]) [1, 2, 3, 4, 0] dX3_told_218 (by decide) rfl ?_
        refine zs_iload_n (pc := 220) 2 dX3_told_220 rfl rfl ?_
        refine zs_join (pc := 221) (fun (p38 : ps_S) => p38) 236 (fun (p38 : ps_S) => [(0, .ref (c + 9)), (2, .int p31.1), (4, .int p36.1)]) (fun (p38 : ps_S) => []) (fun p38 => ?_) (fun h236 => ?_)
        · refine zs_aload_n (pc := 236) 0 dX3_told_236 rfl rfl ?_
          refine zs_iconst (pc := 237) (v := 0) dX3_told_237 rfl ?_
          refine zs_bipush (pc := 238) (v := 9) dX3_told_238 (by decide) ?_
          refine zx_callVI (pc := 240) [.int 0, .int 9] [] (kp_X3_number D Wd c hE hF p38 0 9) wp_X3_number q1053 zc_X3 ps_rcvP dX3_told_240 rfl rfl (Nat.le_of_ble_eq_true rfl) (Nat.le_of_ble_eq_true rfl) (fun M40 => rfl) (fun p39 => ?_)
          refine zs_istore (pc := 243) (lv' := [(0, .ref (c + 9)), (2, .int p31.1), (4, .int p36.1), (5, .int p39.1)]) [1, 2, 3, 0] dX3_told_243 (by decide) rfl ?_
          refine zs_iload_n (pc := 245) 1 dX3_told_245 rfl rfl ?_
          refine zs_join (pc := 246) (fun (p41 : ps_S) => p41) 268 (fun (p41 : ps_S) => [(0, .ref (c + 9)), (2, .int p31.1), (4, .int p36.1), (5, .int p39.1)]) (fun (p41 : ps_S) => []) (fun p41 => ?_) (fun h268 => ?_)
          · refine zs_iload_n (pc := 268) 1 dX3_told_268 rfl rfl ?_
            refine zs_join (pc := 269) (fun (p42 : ps_S) => p42) 291 (fun (p42 : ps_S) => [(0, .ref (c + 9))]) (fun (p42 : ps_S) => []) (fun p42 => ?_) (fun h291 => ?_)
            · refine zs_aload_n (pc := 291) 0 dX3_told_291 rfl rfl ?_
              refine ps_getT (pc := 292) q320 dX3_told_292 (fun y43 => ?_)
              refine zs_dup (pc := 295) dX3_told_295 rfl ?_
              refine ps_dI (pc := 296) (ci := 4) (k := 3) zc_X4 (by decide) q387 dX3_told_296 (fun x44 => ?_)
              refine zs_iconst (pc := 299) (v := 1) dX3_told_299 rfl ?_
              refine zs_iadd (pc := 300) dX3_told_300 ?_
              refine ps_put (pc := 301) (ci := 4) (k := 3) zc_X4 (by decide) q387 rfl rfl rfl dX3_told_301 (fun M45 => ?_)
              refine zs_goto (pc := 304) (tgt := 398) dX3_told_304 (by decide) ?_
              exact zx_vret (pc := 398) dX3_told_398 rfl rfl
            · refine zs_if_lt (pc := 269) (tgt := 291) dX3_told_269 (by decide) ?_ ?_
              · refine zs_sub (lv' := [(0, .ref (c + 9))]) [0] rfl ?_
                exact h291 p41
              · refine zs_iload (pc := 272) 2 dX3_told_272 rfl ?_
                refine zs_if_lt (pc := 274) (tgt := 291) dX3_told_274 (by decide) ?_ ?_
                · refine zs_sub (lv' := [(0, .ref (c + 9))]) [0] rfl ?_
                  exact h291 p41
                · refine zs_aload_n (pc := 277) 0 dX3_told_277 rfl rfl ?_
                  refine ps_getT (pc := 278) q320 dX3_told_278 (fun y46 => ?_)
                  refine ps_dR (pc := 281) (ci := 4) (k := 2) zc_X4 (by decide) q385 dX3_told_281 (fun y47 => ?_)
                  refine zs_iload (pc := 284) 2 dX3_told_284 rfl ?_
                  refine ps_aald (pc := 286) (t := 10) rfl rfl dX3_told_286 (fun y48 => ?_)
                  refine zs_iload_n (pc := 287) 1 dX3_told_287 rfl rfl ?_
                  refine zs_iload (pc := 288) 3 dX3_told_288 rfl ?_
                  refine ps_iast (pc := 290) dX3_told_290 (fun M49 => ?_)
                  refine zs_sub (lv' := [(0, .ref (c + 9))]) [0] rfl ?_
                  exact h291 M49
          · refine zs_if_lt (pc := 246) (tgt := 268) dX3_told_246 (by decide) ?_ ?_
            · exact h268 p39.2
            · refine zs_iload (pc := 249) 2 dX3_told_249 rfl ?_
              refine zs_if_lt (pc := 251) (tgt := 268) dX3_told_251 (by decide) ?_ ?_
              · exact h268 p39.2
              · refine zs_aload_n (pc := 254) 0 dX3_told_254 rfl rfl ?_
                refine ps_getT (pc := 255) q320 dX3_told_255 (fun y50 => ?_)
                refine ps_dR (pc := 258) (ci := 4) (k := 2) zc_X4 (by decide) q385 dX3_told_258 (fun y51 => ?_)
                refine zs_iload_n (pc := 261) 1 dX3_told_261 rfl rfl ?_
                refine ps_aald (pc := 262) (t := 10) rfl rfl dX3_told_262 (fun y52 => ?_)
                refine zs_iload (pc := 263) 2 dX3_told_263 rfl ?_
                refine zs_iload (pc := 265) 3 dX3_told_265 rfl ?_
                refine ps_iast (pc := 267) dX3_told_267 (fun M53 => ?_)
                exact h268 M53
        · refine zs_if_lt (pc := 221) (tgt := 236) dX3_told_221 (by decide) ?_ ?_
          · refine zs_sub (lv' := [(0, .ref (c + 9)), (2, .int p31.1), (4, .int p36.1)]) [0, 2, 4] rfl ?_
            exact h236 p36.2
          · refine zs_iload_n (pc := 224) 2 dX3_told_224 rfl rfl ?_
            refine zs_iload (pc := 225) 4 dX3_told_225 rfl ?_
            refine zs_icmp_ne (pc := 227) (tgt := 236) dX3_told_227 (by decide) ?_ ?_
            · refine zs_aload_n (pc := 230) 0 dX3_told_230 rfl rfl ?_
              refine zs_iconst (pc := 231) (v := 3) dX3_told_231 rfl ?_
              refine zs_iload_n (pc := 232) 3 dX3_told_232 rfl rfl ?_
              refine zs_callVv (pc := 233) [.int 3, .int x33] [] (kp_X3_tell D Wd c hE hF p36.2 3 x33) wp_X3_tell q1031 zc_X3 ps_rcvP dX3_told_233 rfl rfl (Nat.le_of_ble_eq_true rfl) (Nat.le_of_ble_eq_true rfl) (fun M54 => ?_)
              refine zs_sub (lv' := [(0, .ref (c + 9)), (2, .int p31.1), (4, .int p36.1)]) [0, 2, 4] rfl ?_
              exact h236 M54
            · refine zs_sub (lv' := [(0, .ref (c + 9)), (2, .int p31.1), (4, .int p36.1)]) [0, 2, 4] rfl ?_
              exact h236 p36.2
      refine zs_case ?_ ?_
      · refine zs_aload_n (pc := 307) 0 dX3_told_307 rfl rfl ?_
        refine zx_callVV (pc := 308) [] [] (kp_X3_pass D Wd c hE hF p1.2) wp_X3_pass q728 zc_X3 ps_rcvP dX3_told_308 rfl rfl (Nat.le_of_ble_eq_true rfl) (Nat.le_of_ble_eq_true rfl) (fun M56 => rfl) (fun p55 => ?_)
        refine zs_aload_n (pc := 311) 0 dX3_told_311 rfl rfl ?_
        refine ps_getT (pc := 312) q320 dX3_told_312 (fun y57 => ?_)
        refine zs_aload_n (pc := 315) 0 dX3_told_315 rfl rfl ?_
        refine zs_iconst (pc := 316) (v := 1) dX3_told_316 rfl ?_
        refine zs_bipush (pc := 317) (v := 99) dX3_told_317 (by decide) ?_
        refine zx_callVI (pc := 319) [.int 1, .int 99] [.ref y57] (kp_X3_number D Wd c hE hF p55.2 1 99) wp_X3_number q1053 zc_X3 ps_rcvP dX3_told_319 rfl rfl (Nat.le_of_ble_eq_true rfl) (Nat.le_of_ble_eq_true rfl) (fun M59 => rfl) (fun p58 => ?_)
        refine ps_put (pc := 322) (ci := 4) (k := 4) zc_X4 (by decide) q389 rfl rfl rfl dX3_told_322 (fun M60 => ?_)
        refine zs_goto (pc := 325) (tgt := 398) dX3_told_325 (by decide) ?_
        exact zx_vret (pc := 398) dX3_told_398 rfl rfl
      refine zs_case ?_ ?_
      · refine zs_aload_n (pc := 328) 0 dX3_told_328 rfl rfl ?_
        refine zx_callVV (pc := 329) [] [] (kp_X3_pass D Wd c hE hF p1.2) wp_X3_pass q728 zc_X3 ps_rcvP dX3_told_329 rfl rfl (Nat.le_of_ble_eq_true rfl) (Nat.le_of_ble_eq_true rfl) (fun M62 => rfl) (fun p61 => ?_)
        refine zs_aload_n (pc := 332) 0 dX3_told_332 rfl rfl ?_
        refine ps_getT (pc := 333) q320 dX3_told_333 (fun y63 => ?_)
        refine zs_aload_n (pc := 336) 0 dX3_told_336 rfl rfl ?_
        refine zs_iconst (pc := 337) (v := 0) dX3_told_337 rfl ?_
        refine zs_bipush (pc := 338) (v := 99) dX3_told_338 (by decide) ?_
        refine zx_callVI (pc := 340) [.int 0, .int 99] [.ref y63] (kp_X3_number D Wd c hE hF p61.2 0 99) wp_X3_number q1053 zc_X3 ps_rcvP dX3_told_340 rfl rfl (Nat.le_of_ble_eq_true rfl) (Nat.le_of_ble_eq_true rfl) (fun M65 => rfl) (fun p64 => ?_)
        refine ps_put (pc := 343) (ci := 4) (k := 5) zc_X4 (by decide) q392 rfl rfl rfl dX3_told_343 (fun M66 => ?_)
        refine zs_goto (pc := 346) (tgt := 398) dX3_told_346 (by decide) ?_
        exact zx_vret (pc := 398) dX3_told_398 rfl rfl
      refine zs_case ?_ ?_
      · refine zs_aload_n (pc := 349) 0 dX3_told_349 rfl rfl ?_
        refine zx_callVV (pc := 350) [] [] (kp_X3_pass D Wd c hE hF p1.2) wp_X3_pass q728 zc_X3 ps_rcvP dX3_told_350 rfl rfl (Nat.le_of_ble_eq_true rfl) (Nat.le_of_ble_eq_true rfl) (fun M68 => rfl) (fun p67 => ?_)
        refine zs_aload_n (pc := 353) 0 dX3_told_353 rfl rfl ?_
        refine ps_getT (pc := 354) q320 dX3_told_354 (fun y69 => ?_)
        refine zs_aload_n (pc := 357) 0 dX3_told_357 rfl rfl ?_
        refine zs_iconst (pc := 358) (v := 0) dX3_told_358 rfl ?_
        refine zs_bipush (pc := 359) (v := 100) dX3_told_359 (by decide) ?_
        refine zx_callVI (pc := 361) [.int 0, .int 100] [.ref y69] (kp_X3_number D Wd c hE hF p67.2 0 100) wp_X3_number q1053 zc_X3 ps_rcvP dX3_told_361 rfl rfl (Nat.le_of_ble_eq_true rfl) (Nat.le_of_ble_eq_true rfl) (fun M71 => rfl) (fun p70 => ?_)
        refine ps_put (pc := 364) (ci := 4) (k := 6) zc_X4 (by decide) q395 rfl rfl rfl dX3_told_364 (fun M72 => ?_)
        refine zs_goto (pc := 367) (tgt := 398) dX3_told_367 (by decide) ?_
        exact zx_vret (pc := 398) dX3_told_398 rfl rfl
      refine zs_case ?_ ?_
      · refine zs_aload_n (pc := 370) 0 dX3_told_370 rfl rfl ?_
        refine zx_callVV (pc := 371) [] [] (kp_X3_pass D Wd c hE hF p1.2) wp_X3_pass q728 zc_X3 ps_rcvP dX3_told_371 rfl rfl (Nat.le_of_ble_eq_true rfl) (Nat.le_of_ble_eq_true rfl) (fun M74 => rfl) (fun p73 => ?_)
        refine zs_aload_n (pc := 374) 0 dX3_told_374 rfl rfl ?_
        refine ps_getT (pc := 375) q320 dX3_told_375 (fun y75 => ?_)
        refine zs_aload_n (pc := 378) 0 dX3_told_378 rfl rfl ?_
        refine zs_iconst (pc := 379) (v := 0) dX3_told_379 rfl ?_
        refine zs_sipush (pc := 380) (v := 9999) dX3_told_380 (by decide) ?_
        refine zx_callVI (pc := 383) [.int 0, .int 9999] [.ref y75] (kp_X3_number D Wd c hE hF p73.2 0 9999) wp_X3_number q1053 zc_X3 ps_rcvP dX3_told_383 rfl rfl (Nat.le_of_ble_eq_true rfl) (Nat.le_of_ble_eq_true rfl) (fun M77 => rfl) (fun p76 => ?_)
        refine ps_put (pc := 386) (ci := 4) (k := 7) zc_X4 (by decide) q397 rfl rfl rfl dX3_told_386 (fun M78 => ?_)
        refine zs_goto (pc := 389) (tgt := 398) dX3_told_389 (by decide) ?_
        exact zx_vret (pc := 398) dX3_told_398 rfl rfl
      refine zs_dflt ?_
      refine zs_aload_n (pc := 392) 0 dX3_told_392 rfl rfl ?_
      refine zs_iconst (pc := 393) (v := 1) dX3_told_393 rfl ?_
      refine zs_callVwK (pc := 394) [.int 1] [] (kp_X3_wrong D Wd c hE hF p1.2 1) wp_X3_wrong q712 zc_X3 ps_rcvP dX3_told_394 rfl rfl (Nat.le_of_ble_eq_true rfl) (Nat.le_of_ble_eq_true rfl) (fun p79 => ?_)
      exact zx_throw (pc := 397) dX3_told_397 rfl ps_fx
    · refine zs_icmp_lt (pc := 27) (tgt := 56) dX3_told_27 (by decide) ?_ ?_
      · exact h56 ()
      · refine zs_iload_n (pc := 30) 1 dX3_told_30 rfl rfl ?_
        refine zs_bipush (pc := 31) (v := 7) dX3_told_31 (by decide) ?_
        refine zs_icmp_gt (pc := 33) (tgt := 56) dX3_told_33 (by decide) ?_ ?_
        · exact h56 ()
        · refine zs_aload_n (pc := 36) 0 dX3_told_36 rfl rfl ?_
          refine zx_callVV (pc := 37) [] [] (kp_X3_pass D Wd c hE hF p1.2) wp_X3_pass q728 zc_X3 ps_rcvP dX3_told_37 rfl rfl (Nat.le_of_ble_eq_true rfl) (Nat.le_of_ble_eq_true rfl) (fun M81 => rfl) (fun p80 => ?_)
          refine zs_aload_n (pc := 40) 0 dX3_told_40 rfl rfl ?_
          refine ps_getT (pc := 41) q320 dX3_told_41 (fun y82 => ?_)
          refine ps_dR (pc := 44) (ci := 4) (k := 1) zc_X4 (by decide) q382 dX3_told_44 (fun y83 => ?_)
          refine zs_iload_n (pc := 47) 1 dX3_told_47 rfl rfl ?_
          refine zs_iconst (pc := 48) (v := 4) dX3_told_48 rfl ?_
          refine zs_isub (pc := 49) dX3_told_49 ?_
          refine zs_aload_n (pc := 50) 0 dX3_told_50 rfl rfl ?_
          refine zx_callVR (pc := 51) [] [.int (p3 - 4), .ref y83] (kp_X3_law D Wd c hE hF p80.2) wp_X3_law q732 zc_X3 ps_rcvP dX3_told_51 rfl rfl (Nat.le_of_ble_eq_true rfl) (Nat.le_of_ble_eq_true rfl) (fun M85 => rfl) (fun p84 => ?_)
          refine ps_ckr (pc := 54) (fun hc86 => ?_)
          refine ps_aast (pc := 54) (t := 5) (E := "HairRope$Law") rfl zc_X11 (Or.inl rfl) hc86 dX3_told_54 (fun M86 => ?_)
          exact zx_vret (pc := 55) dX3_told_55 rfl rfl
  · refine zs_icmp_ne (pc := 5) (tgt := 23) dX3_told_5 (by decide) ?_ ?_
    · refine zs_aload_n (pc := 8) 0 dX3_told_8 rfl rfl ?_
      refine ps_getr (pc := 9) 9 3 0 (v := .ref (c + 2)) ⟨⟨by decide, by decide⟩, rfl⟩ zc_X3 ⟨rfl, rfl⟩ (by decide) rfl rfl q318 dX3_told_9 ?_
      refine ps_getr (pc := 12) 2 2 6 (v := .ref (c + 8)) ⟨⟨by decide, by decide⟩, rfl⟩ zc_X2 ⟨rfl, rfl⟩ (by decide) rfl rfl q292 dX3_told_12 ?_
      refine zs_aload_n (pc := 15) 0 dX3_told_15 rfl rfl ?_
      refine ps_geti (pc := 16) 9 3 3 ⟨⟨by decide, by decide⟩, rfl⟩ zc_X3 ⟨rfl, rfl⟩ (by decide) rfl q321 dX3_told_16 ?_
      refine ps_fsald (pc := 19) 8 2 6 ⟨⟨by decide, by decide⟩, rfl, rfl, rfl⟩ dX3_told_19 (fun x87 => ?_)
      refine zs_goto (pc := 20) (tgt := 24) dX3_told_20 (by decide) ?_
      exact h24 x87
    · refine zs_iconst (pc := 23) (v := (-1)) dX3_told_23 rfl ?_
      exact h24 (-1)
theorem wp_X3_read : zs_mV RX3 yX3_read cX3_read 1 (some (.object "HairRope$Text")) 0 := ⟨q629, q630, q140, q631, by decide, by decide +kernel⟩
def g_X3_read_L33 (w : Nat → Nat) (c : Nat) : (ps_S) → Option ((ps_S) ⊕ ((ps_S) ⊕ (Option Nat × ps_S))) := fun t33 =>
(gp_X3_sort w c t33).bind (zx_sel (fun M9 => Sum.inr (Sum.inr (none, M9))) fun (p8 : Int32 × ps_S) =>
if p8.1 = 4 then (some (Sum.inr (Sum.inl p8.2)))
else ((gp_X3_told w c p8.2).bind (zx_sel (fun M11 => Sum.inr (Sum.inr (none, M11))) fun (p10 : Unit × ps_S) =>
(gp_X3_sign w c p10.2 59).bind (zx_sel (fun M13 => Sum.inr (Sum.inr (none, M13))) fun (p12 : Unit × ps_S) =>
some (Sum.inl p12.2)))))
def gp_X3_read (w : Nat → Nat) (c : Nat) (M : ps_S) : Option (Option Nat × ps_S) :=
(gp_X2_read w c M).bind fun M1 =>
(ps_nw M1 (4, 8, fun k => defaultValue (tyX4 k)) 8).bind fun z2 =>
(gp_X4_init w c z2.2 z2.1).bind fun M3 =>
(some (ps_sT M3 z2.1)).bind fun M4 =>
(some (ps_sF M4 3 3 0)).bind fun M5 =>
(some (ps_sF M5 3 4 0)).bind fun M6 =>
(some (ps_sF M6 3 5 0)).bind fun M7 =>
(zs_loop 5000 (g_X3_read_L33 w c) M7).bind (Sum.elim (fun (r14 : ps_S) =>
if (r14.1.1 3 5) = 0 then ((ps_tx r14).bind fun y15 =>
some (some y15, r14))
else ((gp_X3_wrongAt w c r14 (r14.1.1 3 5) (r14.1.1 3 6)).bind fun p16 =>
some (none, p16.2)))
 (fun z => some z))
set_option maxHeartbeats 4000000 in
theorem kp_X3_read (D : zs_D) (Wd : cs_W) (c : Nat) (hE : D.2.2.2 1 = .ref (Wd.1 100)) (hF : D.2.2.2 4 = hp_v (Wd.1 101)) (M : ps_S) : zx_Con D (ps_R Wd c) ps_bd zs_eR yX3_read cX3_read 1 (some (.object "HairRope$Text")) 35 [.ref (c + 9)] M (c + 1) (gp_X3_read Wd.1 c M) := by
  unfold gp_X3_read
  refine zx_con (own := RX3) (nm := "read") pl_X3 rfl rfl (Nat.le_of_ble_eq_true rfl) ?_
  refine zs_lv (lv' := [(0, .ref (c + 9))]) rfl ?_
  refine zs_aload_n (pc := 0) 0 dX3_read_0 rfl rfl ?_
  refine ps_getr (pc := 1) 9 3 0 (v := .ref (c + 2)) ⟨⟨by decide, by decide⟩, rfl⟩ zc_X3 ⟨rfl, rfl⟩ (by decide) rfl rfl q318 dX3_read_1 ?_
  refine zs_callVv (pc := 4) [] [] (kp_X2_read D Wd c hE hF M) wp_X2_read q632 zc_X2 ps_rcvT dX3_read_4 rfl rfl (Nat.le_of_ble_eq_true rfl) (Nat.le_of_ble_eq_true rfl) (fun M1 => ?_)
  refine zs_aload_n (pc := 7) 0 dX3_read_7 rfl rfl ?_
  refine ps_new (pc := 8) zc_X4 q706 q341 q141 dX3_read_8 (fun z2 => ?_)
  refine zs_dup (pc := 11) dX3_read_11 rfl ?_
  refine zs_callI0 (pc := 12) [] [.ref z2.1, .ref (c + 9)] (kp_X4_init D Wd c hE hF z2.2 z2.1) wp_X4_init q707 dX3_read_12 rfl rfl (Nat.le_of_ble_eq_true rfl) (Nat.le_of_ble_eq_true rfl) (fun M3 _ => ?_)
  refine ps_putT (pc := 15) q320 dX3_read_15 (fun M4 => ?_)
  refine zs_aload_n (pc := 18) 0 dX3_read_18 rfl rfl ?_
  refine zs_iconst (pc := 19) (v := 0) dX3_read_19 rfl ?_
  refine ps_puti (pc := 20) 9 3 3 ⟨⟨by decide, by decide⟩, rfl⟩ zc_X3 ⟨rfl, rfl⟩ (by decide) rfl q321 rfl rfl rfl dX3_read_20 (fun M5 => ?_)
  refine zs_aload_n (pc := 23) 0 dX3_read_23 rfl rfl ?_
  refine zs_iconst (pc := 24) (v := 0) dX3_read_24 rfl ?_
  refine ps_puti (pc := 25) 9 3 4 ⟨⟨by decide, by decide⟩, rfl⟩ zc_X3 ⟨rfl, rfl⟩ (by decide) rfl q322 rfl rfl rfl dX3_read_25 (fun M6 => ?_)
  refine zs_aload_n (pc := 28) 0 dX3_read_28 rfl rfl ?_
  refine zs_iconst (pc := 29) (v := 0) dX3_read_29 rfl ?_
  refine ps_puti (pc := 30) 9 3 5 ⟨⟨by decide, by decide⟩, rfl⟩ zc_X3 ⟨rfl, rfl⟩ (by decide) rfl q323 rfl rfl rfl dX3_read_30 (fun M7 => ?_)
  refine zs_whileR (pc := 33) (fun (t33 : ps_S) => t33) (fun (t33 : ps_S) => [(0, .ref (c + 9))]) 5000 M7 (fun (r14 : ps_S) => r14) 54 (fun (r14 : ps_S) => [(0, .ref (c + 9))]) [] (fun r14 => ?_) (fun X33 hL33 hE33 hR33 t33 => ?_)
  · refine zs_aload_n (pc := 54) 0 dX3_read_54 rfl rfl ?_
    refine ps_geti (pc := 55) 9 3 5 ⟨⟨by decide, by decide⟩, rfl⟩ zc_X3 ⟨rfl, rfl⟩ (by decide) rfl q323 dX3_read_55 ?_
    refine zs_if_eq (pc := 58) (tgt := 74) dX3_read_58 (by decide) ?_ ?_
    · refine zs_aload_n (pc := 74) 0 dX3_read_74 rfl rfl ?_
      refine ps_getT (pc := 75) q320 dX3_read_75 (fun y15 => ?_)
      exact zx_aret (pc := 78) dX3_read_78 rfl rfl (Or.inl ⟨_, rfl⟩) (Or.inr ⟨_, rfl⟩)
    · refine zs_aload_n (pc := 61) 0 dX3_read_61 rfl rfl ?_
      refine zs_aload_n (pc := 62) 0 dX3_read_62 rfl rfl ?_
      refine ps_geti (pc := 63) 9 3 5 ⟨⟨by decide, by decide⟩, rfl⟩ zc_X3 ⟨rfl, rfl⟩ (by decide) rfl q323 dX3_read_63 ?_
      refine zs_aload_n (pc := 66) 0 dX3_read_66 rfl rfl ?_
      refine ps_geti (pc := 67) 9 3 6 ⟨⟨by decide, by decide⟩, rfl⟩ zc_X3 ⟨rfl, rfl⟩ (by decide) rfl q324 dX3_read_67 ?_
      refine zs_callVwK (pc := 70) [.int (r14.1.1 3 5), .int (r14.1.1 3 6)] [] (kp_X3_wrongAt D Wd c hE hF r14 (r14.1.1 3 5) (r14.1.1 3 6)) wp_X3_wrongAt q716 zc_X3 ps_rcvP dX3_read_70 rfl rfl (Nat.le_of_ble_eq_true rfl) (Nat.le_of_ble_eq_true rfl) (fun p16 => ?_)
      exact zx_throw (pc := 73) dX3_read_73 rfl ps_fx
  · unfold g_X3_read_L33
    refine zs_aload_n (pc := 33) 0 dX3_read_33 rfl rfl ?_
    refine zx_callVI (pc := 34) [] [] (kp_X3_sort D Wd c hE hF t33) wp_X3_sort q708 zc_X3 ps_rcvP dX3_read_34 rfl rfl (Nat.le_of_ble_eq_true rfl) (Nat.le_of_ble_eq_true rfl) (fun M9 => ((hR33 _).trans rfl)) (fun p8 => ?_)
    refine zs_iconst (pc := 37) (v := 4) dX3_read_37 rfl ?_
    refine zs_icmp_eq (pc := 38) (tgt := 54) dX3_read_38 (by decide) ?_ ?_
    · exact hE33 p8.2
    · refine zs_aload_n (pc := 41) 0 dX3_read_41 rfl rfl ?_
      refine zx_callVV (pc := 42) [] [] (kp_X3_told D Wd c hE hF p8.2) wp_X3_told q724 zc_X3 ps_rcvP dX3_read_42 rfl rfl (Nat.le_of_ble_eq_true rfl) (Nat.le_of_ble_eq_true rfl) (fun M11 => ((hR33 _).trans rfl)) (fun p10 => ?_)
      refine zs_aload_n (pc := 45) 0 dX3_read_45 rfl rfl ?_
      refine zs_bipush (pc := 46) (v := 59) dX3_read_46 (by decide) ?_
      refine zx_callVV (pc := 48) [.int 59] [] (kp_X3_sign D Wd c hE hF p10.2 59) wp_X3_sign q761 zc_X3 ps_rcvP dX3_read_48 rfl rfl (Nat.le_of_ble_eq_true rfl) (Nat.le_of_ble_eq_true rfl) (fun M13 => ((hR33 _).trans rfl)) (fun p12 => ?_)
      refine zs_goto (pc := 51) (tgt := 33) dX3_read_51 (by decide) ?_
      exact hL33 p12.2
