/-! constructors, walked over a heap as data: gq_, kq_. Printed by wip/D-73134w/gen/ctors.py -/
set_option maxRecDepth 100000
theorem pl_J0 : plainName RJ0 = true := by decide +kernel
theorem pl_J1 : plainName RJ1 = true := by decide +kernel
theorem pl_J2 : plainName RJ2 = true := by decide +kernel
theorem pl_X6 : plainName RX6 = true := by decide +kernel
theorem pl_X7 : plainName RX7 = true := by decide +kernel
theorem zs_Sv2 {D : zs_D} {e : Nat} (h : D.2.2.2 2 = hp_v e) : zs_Sv D 2 = some ("java/lang/Throwable", "UNASSIGNED_STACK", "[Ljava/lang/StackTraceElement;", hp_v e) := by
  show some (_, _, _, D.2.2.2 2) = _
  rw [h]
theorem zs_Sv3 {D : zs_D} {e : Nat} (h : D.2.2.2 3 = hp_v e) : zs_Sv D 3 = some ("java/lang/Throwable", "SUPPRESSED_SENTINEL", "Ljava/util/List;", hp_v e) := by
  show some (_, _, _, D.2.2.2 3) = _
  rw [h]
theorem zs_ldcW {σ α β : Type} {D : zs_D} {Rl : σ → zs_AH → Prop} {bd : σ → Nat × Nat} {Fn : zs_Q σ α} {own : String} {cc : ByteArray} {nL : Nat} {rt : Option FieldType} {nm : String} {d : Nat} {M : σ} {pc : Nat} {lv : List (Nat × Value)} {st : List Value} {o : Option β} {K : β → Option (α × σ)} {i x : Nat} {tx : String} (hq : Cond.stringRef own i tx ∈ lw_tbl) (hx : D.2.2.1 i = x) (hd : decode cc pc = .ok (.ldc i, 2)) (k : zs_Sim D Rl bd Fn own cc nL rt nm d M (pc + 2) lv (.ref x :: st) o K) : zs_Sim D Rl bd Fn own cc nL rt nm d M pc lv st o K := zs_ldcs hq hd (by rw [hx]; exact k)
def gq_J3_init (w : Nat → Nat) (M : ps_S) (a0 : Nat) : Option (ps_S) :=
some M
set_option maxHeartbeats 4000000 in
theorem kq_J3_init (D : zs_D) (w : Nat → Nat) (hE : D.2.2.2 1 = .ref (w 100)) (hF : D.2.2.2 4 = hp_v (w 101)) (hU : D.2.2.2 2 = hp_v (w 102)) (hV : D.2.2.2 3 = hp_v (w 103)) (hG : (∀ k, k < 22 → D.2.2.1 (11 + 2 * k) = w k) ∧ D.2.2.1 1 = w 22) (M : ps_S) (a0 : Nat) : zs_Con D hp_R ps_bd zs_eV yJ3_init cJ3_init 1 none 1 [.ref a0] M ((gq_J3_init w M a0).map fun x => ((), x)) := by
  unfold gq_J3_init
  refine zs_conV (own := RJ3) (nm := "<init>") pl_J3 rfl rfl (Nat.le_of_ble_eq_true rfl) ?_
  refine zs_lv (lv' := [(0, .ref a0)]) rfl ?_
  refine zs_aload_n (pc := 0) 0 dJ3_init_0 rfl rfl ?_
  refine zs_objI (pc := 1) (a := a0) q357 q175 q176 dJ3_init_1 (Nat.le_of_ble_eq_true rfl) (Nat.le_of_ble_eq_true rfl) ?_
  exact zs_vret (pc := 4) dJ3_init_4 rfl rfl
def gq_J4_init (w : Nat → Nat) (M : ps_S) (a0 : Nat) : Option (ps_S) :=
(gq_J3_init w M a0).bind fun M1 =>
(hp_pV M1 a0 17 3 0 (.int 0)).bind fun M2 =>
some M2
set_option maxHeartbeats 4000000 in
theorem kq_J4_init (D : zs_D) (w : Nat → Nat) (hE : D.2.2.2 1 = .ref (w 100)) (hF : D.2.2.2 4 = hp_v (w 101)) (hU : D.2.2.2 2 = hp_v (w 102)) (hV : D.2.2.2 3 = hp_v (w 103)) (hG : (∀ k, k < 22 → D.2.2.1 (11 + 2 * k) = w k) ∧ D.2.2.1 1 = w 22) (M : ps_S) (a0 : Nat) : zs_Con D hp_R ps_bd zs_eV yJ4_init cJ4_init 1 none 2 [.ref a0] M ((gq_J4_init w M a0).map fun x => ((), x)) := by
  unfold gq_J4_init
  refine zs_conV (own := RJ4) (nm := "<init>") pl_J4 rfl rfl (Nat.le_of_ble_eq_true rfl) ?_
  refine zs_lv (lv' := [(0, .ref a0)]) rfl ?_
  refine zs_aload_n (pc := 0) 0 dJ4_init_0 rfl rfl ?_
  refine zs_callI0 (pc := 1) [] [] (kq_J3_init D w hE hF hU hV hG M a0) wp_J3_init q354 dJ4_init_1 rfl rfl (Nat.le_of_ble_eq_true rfl) (Nat.le_of_ble_eq_true rfl) (fun M1 _ => ?_)
  refine zs_aload_n (pc := 4) 0 dJ4_init_4 rfl rfl ?_
  refine zs_iconst (pc := 5) (v := 0) dJ4_init_5 rfl ?_
  refine hp_put (pc := 6) (ci := 17) (k := 0) zc_J5 (by decide) q362 rfl rfl rfl dJ4_init_6 (fun M2 => ?_)
  exact zs_vret (pc := 9) dJ4_init_9 rfl rfl
def gq_J5_init (w : Nat → Nat) (M : ps_S) (a0 : Nat) : Option (ps_S) :=
(gq_J4_init w M a0).bind fun M1 =>
(hp_pV M1 a0 17 3 1 (.ref (w 100))).bind fun M2 =>
some M2
set_option maxHeartbeats 4000000 in
theorem kq_J5_init (D : zs_D) (w : Nat → Nat) (hE : D.2.2.2 1 = .ref (w 100)) (hF : D.2.2.2 4 = hp_v (w 101)) (hU : D.2.2.2 2 = hp_v (w 102)) (hV : D.2.2.2 3 = hp_v (w 103)) (hG : (∀ k, k < 22 → D.2.2.1 (11 + 2 * k) = w k) ∧ D.2.2.1 1 = w 22) (M : ps_S) (a0 : Nat) : zs_Con D hp_R ps_bd zs_eV yJ5_init cJ5_init 1 none 3 [.ref a0] M ((gq_J5_init w M a0).map fun x => ((), x)) := by
  unfold gq_J5_init
  refine zs_conV (own := RJ5) (nm := "<init>") pl_J5 rfl rfl (Nat.le_of_ble_eq_true rfl) ?_
  refine zs_lv (lv' := [(0, .ref a0)]) rfl ?_
  refine zs_aload_n (pc := 0) 0 dJ5_init_0 rfl rfl ?_
  refine zs_callI0 (pc := 1) [] [] (kq_J4_init D w hE hF hU hV hG M a0) wp_J4_init q351 dJ5_init_1 rfl rfl (Nat.le_of_ble_eq_true rfl) (Nat.le_of_ble_eq_true rfl) (fun M1 _ => ?_)
  refine zs_aload_n (pc := 4) 0 dJ5_init_4 rfl rfl ?_
  refine zs_gets (pc := 5) (zs_Sv1 hE) q358 dJ5_init_5 ?_
  refine hp_put (pc := 8) (ci := 17) (k := 1) zc_J5 (by decide) q360 rfl rfl rfl dJ5_init_8 (fun M2 => ?_)
  exact zs_vret (pc := 11) dJ5_init_11 rfl rfl
theorem wp_J0_init_2 : zs_mI yJ0_init_2 cJ0_init_2 5 4 := ⟨q227, q135, q228, by decide, rfl, by decide +kernel⟩
def gq_J0_init_2 (w : Nat → Nat) (M : ps_S) (a0 : Nat) (a1 : Nat) : Option (ps_S) :=
(hp_pV M a0 1 8 0 (.ref a0)).bind fun M1 =>
(hp_pV M1 a0 1 8 1 (hp_v (w 102))).bind fun M2 =>
(hp_pV M2 a0 1 8 2 (hp_v (w 103))).bind fun M3 =>
if (0 : Int32) = 0 then ((hp_pV M3 a0 1 8 1 (.null)).bind fun M4 =>
(hp_pV M4 a0 1 8 3 (.ref a1)).bind fun M5 =>
(hp_pV M5 a0 1 8 0 (.null)).bind fun M6 =>
if (0 : Int32) = 0 then ((hp_pV M6 a0 1 8 2 (.null)).bind fun M7 =>
some M7)
else (some M6))
else (none)
set_option maxHeartbeats 4000000 in
theorem kq_J0_init_2 (D : zs_D) (w : Nat → Nat) (hE : D.2.2.2 1 = .ref (w 100)) (hF : D.2.2.2 4 = hp_v (w 101)) (hU : D.2.2.2 2 = hp_v (w 102)) (hV : D.2.2.2 3 = hp_v (w 103)) (hG : (∀ k, k < 22 → D.2.2.1 (11 + 2 * k) = w k) ∧ D.2.2.1 1 = w 22) (M : ps_S) (a0 : Nat) (a1 : Nat) : zs_Con D hp_R ps_bd zs_eV yJ0_init_2 cJ0_init_2 5 none 1 [.ref a0, .ref a1, .null, .int 0, .int 0] M ((gq_J0_init_2 w M a0 a1).map fun x => ((), x)) := by
  unfold gq_J0_init_2
  refine zs_conV (own := RJ0) (nm := "<init>") pl_J0 rfl rfl (Nat.le_of_ble_eq_true rfl) ?_
  refine zs_lv (lv' := [(0, .ref a0), (1, .ref a1), (2, .null), (3, .int 0), (4, .int 0)]) rfl ?_
  refine zs_aload_n (pc := 0) 0 dJ0_init_2_0 rfl rfl ?_
  refine zs_objI (pc := 1) (a := a0) q202 q175 q176 dJ0_init_2_1 (Nat.le_of_ble_eq_true rfl) (Nat.le_of_ble_eq_true rfl) ?_
  refine zs_aload_n (pc := 4) 0 dJ0_init_2_4 rfl rfl ?_
  refine zs_aload_n (pc := 5) 0 dJ0_init_2_5 rfl rfl ?_
  refine hp_put (pc := 6) (ci := 1) (k := 0) zc_X1 (by decide) q235 rfl rfl rfl dJ0_init_2_6 (fun M1 => ?_)
  refine zs_aload_n (pc := 9) 0 dJ0_init_2_9 rfl rfl ?_
  refine zs_gets (pc := 10) (zs_Sv2 hU) q203 dJ0_init_2_10 ?_
  refine hp_put (pc := 13) (ci := 1) (k := 1) zc_X1 (by decide) q236 rfl (hv_n rfl _) (hv_f rfl _) dJ0_init_2_13 (fun M2 => ?_)
  refine zs_aload_n (pc := 16) 0 dJ0_init_2_16 rfl rfl ?_
  refine zs_gets (pc := 17) (zs_Sv3 hV) q205 dJ0_init_2_17 ?_
  refine hp_put (pc := 20) (ci := 1) (k := 2) zc_X1 (by decide) q237 rfl (hv_n rfl _) (hv_f rfl _) dJ0_init_2_20 (fun M3 => ?_)
  refine zs_iload (pc := 23) 4 dJ0_init_2_23 rfl ?_
  refine zs_if_eq (pc := 25) (tgt := 36) dJ0_init_2_25 (by decide) ?_ ?_
  · refine zs_aload_n (pc := 36) 0 dJ0_init_2_36 rfl rfl ?_
    refine zs_null (pc := 37) dJ0_init_2_37 ?_
    refine hp_put (pc := 38) (ci := 1) (k := 1) zc_X1 (by decide) q236 rfl rfl rfl dJ0_init_2_38 (fun M4 => ?_)
    refine zs_aload_n (pc := 41) 0 dJ0_init_2_41 rfl rfl ?_
    refine zs_aload_n (pc := 42) 1 dJ0_init_2_42 rfl rfl ?_
    refine hp_put (pc := 43) (ci := 1) (k := 3) zc_X1 (by decide) q234 rfl rfl rfl dJ0_init_2_43 (fun M5 => ?_)
    refine zs_aload_n (pc := 46) 0 dJ0_init_2_46 rfl rfl ?_
    refine zs_aload_nN (pc := 47) 2 dJ0_init_2_47 rfl rfl ?_
    refine hp_put (pc := 48) (ci := 1) (k := 0) zc_X1 (by decide) q235 rfl rfl rfl dJ0_init_2_48 (fun M6 => ?_)
    refine zs_iload_n (pc := 51) 3 dJ0_init_2_51 rfl rfl ?_
    refine zs_if_ne (pc := 52) (tgt := 60) dJ0_init_2_52 (by decide) ?_ ?_
    · refine zs_aload_n (pc := 55) 0 dJ0_init_2_55 rfl rfl ?_
      refine zs_null (pc := 56) dJ0_init_2_56 ?_
      refine hp_put (pc := 57) (ci := 1) (k := 2) zc_X1 (by decide) q237 rfl rfl rfl dJ0_init_2_57 (fun M7 => ?_)
      exact zs_vret (pc := 60) dJ0_init_2_60 rfl rfl
    · exact zs_vret (pc := 60) dJ0_init_2_60 rfl rfl
  · exact zs_none
theorem wp_J1_init : zs_mI yJ1_init cJ1_init 5 4 := ⟨q224, q136, q225, by decide, rfl, by decide +kernel⟩
def gq_J1_init (w : Nat → Nat) (M : ps_S) (a0 : Nat) (a1 : Nat) : Option (ps_S) :=
(gq_J0_init_2 w M a0 a1).bind fun M1 =>
some M1
set_option maxHeartbeats 4000000 in
theorem kq_J1_init (D : zs_D) (w : Nat → Nat) (hE : D.2.2.2 1 = .ref (w 100)) (hF : D.2.2.2 4 = hp_v (w 101)) (hU : D.2.2.2 2 = hp_v (w 102)) (hV : D.2.2.2 3 = hp_v (w 103)) (hG : (∀ k, k < 22 → D.2.2.1 (11 + 2 * k) = w k) ∧ D.2.2.1 1 = w 22) (M : ps_S) (a0 : Nat) (a1 : Nat) : zs_Con D hp_R ps_bd zs_eV yJ1_init cJ1_init 5 none 2 [.ref a0, .ref a1, .null, .int 0, .int 0] M ((gq_J1_init w M a0 a1).map fun x => ((), x)) := by
  unfold gq_J1_init
  refine zs_conV (own := RJ1) (nm := "<init>") pl_J1 rfl rfl (Nat.le_of_ble_eq_true rfl) ?_
  refine zs_lv (lv' := [(0, .ref a0), (1, .ref a1), (2, .null), (3, .int 0), (4, .int 0)]) rfl ?_
  refine zs_aload_n (pc := 0) 0 dJ1_init_0 rfl rfl ?_
  refine zs_aload_n (pc := 1) 1 dJ1_init_1 rfl rfl ?_
  refine zs_aload_nN (pc := 2) 2 dJ1_init_2 rfl rfl ?_
  refine zs_iload_n (pc := 3) 3 dJ1_init_3 rfl rfl ?_
  refine zs_iload (pc := 4) 4 dJ1_init_4 rfl ?_
  refine zs_callI0 (pc := 6) [.ref a1, .null, .int 0, .int 0] [] (kq_J0_init_2 D w hE hF hU hV hG M a0 a1) wp_J0_init_2 q226 dJ1_init_6 rfl rfl (Nat.le_of_ble_eq_true rfl) (Nat.le_of_ble_eq_true rfl) (fun M1 _ => ?_)
  exact zs_vret (pc := 9) dJ1_init_9 rfl rfl
theorem wp_J2_init : zs_mI yJ2_init cJ2_init 5 4 := ⟨q221, q137, q222, by decide, rfl, by decide +kernel⟩
def gq_J2_init (w : Nat → Nat) (M : ps_S) (a0 : Nat) (a1 : Nat) : Option (ps_S) :=
(gq_J1_init w M a0 a1).bind fun M1 =>
some M1
set_option maxHeartbeats 4000000 in
theorem kq_J2_init (D : zs_D) (w : Nat → Nat) (hE : D.2.2.2 1 = .ref (w 100)) (hF : D.2.2.2 4 = hp_v (w 101)) (hU : D.2.2.2 2 = hp_v (w 102)) (hV : D.2.2.2 3 = hp_v (w 103)) (hG : (∀ k, k < 22 → D.2.2.1 (11 + 2 * k) = w k) ∧ D.2.2.1 1 = w 22) (M : ps_S) (a0 : Nat) (a1 : Nat) : zs_Con D hp_R ps_bd zs_eV yJ2_init cJ2_init 5 none 3 [.ref a0, .ref a1, .null, .int 0, .int 0] M ((gq_J2_init w M a0 a1).map fun x => ((), x)) := by
  unfold gq_J2_init
  refine zs_conV (own := RJ2) (nm := "<init>") pl_J2 rfl rfl (Nat.le_of_ble_eq_true rfl) ?_
  refine zs_lv (lv' := [(0, .ref a0), (1, .ref a1), (2, .null), (3, .int 0), (4, .int 0)]) rfl ?_
  refine zs_aload_n (pc := 0) 0 dJ2_init_0 rfl rfl ?_
  refine zs_aload_n (pc := 1) 1 dJ2_init_1 rfl rfl ?_
  refine zs_aload_nN (pc := 2) 2 dJ2_init_2 rfl rfl ?_
  refine zs_iload_n (pc := 3) 3 dJ2_init_3 rfl rfl ?_
  refine zs_iload (pc := 4) 4 dJ2_init_4 rfl ?_
  refine zs_callI0 (pc := 6) [.ref a1, .null, .int 0, .int 0] [] (kq_J1_init D w hE hF hU hV hG M a0 a1) wp_J1_init q223 dJ2_init_6 rfl rfl (Nat.le_of_ble_eq_true rfl) (Nat.le_of_ble_eq_true rfl) (fun M1 _ => ?_)
  exact zs_vret (pc := 9) dJ2_init_9 rfl rfl
theorem wp_X1_init : zs_mI yX1_init cX1_init 1 0 := ⟨q217, q138, q218, by decide, rfl, by decide +kernel⟩
def gq_X1_init (w : Nat → Nat) (M : ps_S) (a0 : Nat) : Option (ps_S) :=
(gq_J2_init w M a0 (w 22)).bind fun M1 =>
some M1
set_option maxHeartbeats 4000000 in
theorem kq_X1_init (D : zs_D) (w : Nat → Nat) (hE : D.2.2.2 1 = .ref (w 100)) (hF : D.2.2.2 4 = hp_v (w 101)) (hU : D.2.2.2 2 = hp_v (w 102)) (hV : D.2.2.2 3 = hp_v (w 103)) (hG : (∀ k, k < 22 → D.2.2.1 (11 + 2 * k) = w k) ∧ D.2.2.1 1 = w 22) (M : ps_S) (a0 : Nat) : zs_Con D hp_R ps_bd zs_eV yX1_init cX1_init 1 none 4 [.ref a0] M ((gq_X1_init w M a0).map fun x => ((), x)) := by
  unfold gq_X1_init
  refine zs_conV (own := RX1) (nm := "<init>") pl_X1 rfl rfl (Nat.le_of_ble_eq_true rfl) ?_
  refine zs_lv (lv' := [(0, .ref a0)]) rfl ?_
  refine zs_aload_n (pc := 0) 0 dX1_init_0 rfl rfl ?_
  refine zs_ldcW (pc := 1) q219 hG.2 dX1_init_1 ?_
  refine zs_null (pc := 3) dX1_init_3 ?_
  refine zs_iconst (pc := 4) (v := 0) dX1_init_4 rfl ?_
  refine zs_iconst (pc := 5) (v := 0) dX1_init_5 rfl ?_
  refine zs_callI0 (pc := 6) [.ref (w 22), .null, .int 0, .int 0] [] (kq_J2_init D w hE hF hU hV hG M a0 (w 22)) wp_J2_init q220 dX1_init_6 rfl rfl (Nat.le_of_ble_eq_true rfl) (Nat.le_of_ble_eq_true rfl) (fun M1 _ => ?_)
  exact zs_vret (pc := 9) dX1_init_9 rfl rfl
theorem wp_X2_init : zs_mI yX2_init cX2_init 1 0 := ⟨q254, q139, q255, by decide, rfl, by decide +kernel⟩
def gq_X2_init (w : Nat → Nat) (M : ps_S) (a0 : Nat) : Option (ps_S) :=
(ps_na M 8 .null 22).bind fun z1 =>
(hp_ck z1.2 (w 0) 18).bind fun _ => (hp_pA z1.2 z1.1 8 0 (.ref (w 0))).bind fun M2 =>
(hp_ck M2 (w 1) 18).bind fun _ => (hp_pA M2 z1.1 8 1 (.ref (w 1))).bind fun M3 =>
(hp_ck M3 (w 2) 18).bind fun _ => (hp_pA M3 z1.1 8 2 (.ref (w 2))).bind fun M4 =>
(hp_ck M4 (w 3) 18).bind fun _ => (hp_pA M4 z1.1 8 3 (.ref (w 3))).bind fun M5 =>
(hp_ck M5 (w 4) 18).bind fun _ => (hp_pA M5 z1.1 8 4 (.ref (w 4))).bind fun M6 =>
(hp_ck M6 (w 5) 18).bind fun _ => (hp_pA M6 z1.1 8 5 (.ref (w 5))).bind fun M7 =>
(hp_ck M7 (w 6) 18).bind fun _ => (hp_pA M7 z1.1 8 6 (.ref (w 6))).bind fun M8 =>
(hp_ck M8 (w 7) 18).bind fun _ => (hp_pA M8 z1.1 8 7 (.ref (w 7))).bind fun M9 =>
(hp_ck M9 (w 8) 18).bind fun _ => (hp_pA M9 z1.1 8 8 (.ref (w 8))).bind fun M10 =>
(hp_ck M10 (w 9) 18).bind fun _ => (hp_pA M10 z1.1 8 9 (.ref (w 9))).bind fun M11 =>
(hp_ck M11 (w 10) 18).bind fun _ => (hp_pA M11 z1.1 8 10 (.ref (w 10))).bind fun M12 =>
(hp_ck M12 (w 11) 18).bind fun _ => (hp_pA M12 z1.1 8 11 (.ref (w 11))).bind fun M13 =>
(hp_ck M13 (w 12) 18).bind fun _ => (hp_pA M13 z1.1 8 12 (.ref (w 12))).bind fun M14 =>
(hp_ck M14 (w 13) 18).bind fun _ => (hp_pA M14 z1.1 8 13 (.ref (w 13))).bind fun M15 =>
(hp_ck M15 (w 14) 18).bind fun _ => (hp_pA M15 z1.1 8 14 (.ref (w 14))).bind fun M16 =>
(hp_ck M16 (w 15) 18).bind fun _ => (hp_pA M16 z1.1 8 15 (.ref (w 15))).bind fun M17 =>
(hp_ck M17 (w 16) 18).bind fun _ => (hp_pA M17 z1.1 8 16 (.ref (w 16))).bind fun M18 =>
(hp_ck M18 (w 17) 18).bind fun _ => (hp_pA M18 z1.1 8 17 (.ref (w 17))).bind fun M19 =>
(hp_ck M19 (w 18) 18).bind fun _ => (hp_pA M19 z1.1 8 18 (.ref (w 18))).bind fun M20 =>
(hp_ck M20 (w 19) 18).bind fun _ => (hp_pA M20 z1.1 8 19 (.ref (w 19))).bind fun M21 =>
(hp_ck M21 (w 20) 18).bind fun _ => (hp_pA M21 z1.1 8 20 (.ref (w 20))).bind fun M22 =>
(hp_ck M22 (w 21) 18).bind fun _ => (hp_pA M22 z1.1 8 21 (.ref (w 21))).bind fun M23 =>
(hp_pV M23 a0 2 8 0 (.ref z1.1)).bind fun M24 =>
(ps_na M24 1 (defaultValue .byte) 2000).bind fun z25 =>
(hp_pV z25.2 a0 2 8 1 (.ref z25.1)).bind fun M26 =>
(ps_na M26 1 (defaultValue .byte) 2001).bind fun z27 =>
(hp_pV z27.2 a0 2 8 3 (.ref z27.1)).bind fun M28 =>
(ps_na M28 2 (defaultValue .short) 2001).bind fun z29 =>
(hp_pV z29.2 a0 2 8 4 (.ref z29.1)).bind fun M30 =>
(ps_na M30 2 (defaultValue .short) 2001).bind fun z31 =>
(hp_pV z31.2 a0 2 8 5 (.ref z31.1)).bind fun M32 =>
(ps_na M32 2 (defaultValue .short) 2001).bind fun z33 =>
(hp_pV z33.2 a0 2 8 6 (.ref z33.1)).bind fun M34 =>
some M34
set_option maxHeartbeats 4000000 in
theorem kq_X2_init (D : zs_D) (w : Nat → Nat) (hE : D.2.2.2 1 = .ref (w 100)) (hF : D.2.2.2 4 = hp_v (w 101)) (hU : D.2.2.2 2 = hp_v (w 102)) (hV : D.2.2.2 3 = hp_v (w 103)) (hG : (∀ k, k < 22 → D.2.2.1 (11 + 2 * k) = w k) ∧ D.2.2.1 1 = w 22) (M : ps_S) (a0 : Nat) : zs_Con D hp_R ps_bd zs_eV yX2_init cX2_init 1 none 1 [.ref a0] M ((gq_X2_init w M a0).map fun x => ((), x)) := by
  unfold gq_X2_init
  refine zs_conV (own := RX2) (nm := "<init>") pl_X2 rfl rfl (Nat.le_of_ble_eq_true rfl) ?_
  refine zs_lv (lv' := [(0, .ref a0)]) rfl ?_
  refine zs_aload_n (pc := 0) 0 dX2_init_0 rfl rfl ?_
  refine zs_objI (pc := 1) (a := a0) q256 q175 q176 dX2_init_1 (Nat.le_of_ble_eq_true rfl) (Nat.le_of_ble_eq_true rfl) ?_
  refine zs_aload_n (pc := 4) 0 dX2_init_4 rfl rfl ?_
  refine zs_bipush (pc := 5) (v := 22) dX2_init_5 (by decide) ?_
  refine hp_newq (pc := 7) (t := 8) rfl q257 q258 dX2_init_7 (fun z1 => ?_)
  refine zs_dup (pc := 10) dX2_init_10 rfl ?_
  refine zs_iconst (pc := 11) (v := 0) dX2_init_11 rfl ?_
  refine zs_ldcW (pc := 12) q259 (hG.1 0 (by decide)) dX2_init_12 ?_
  refine hp_ckr (pc := 14) (fun hc2 => ?_)
  refine hp_aast (pc := 14) (t := 8) (E := "java/lang/String") rfl zc_J8 (Or.inl rfl) hc2 dX2_init_14 (fun M2 => ?_)
  refine zs_dup (pc := 15) dX2_init_15 rfl ?_
  refine zs_iconst (pc := 16) (v := 1) dX2_init_16 rfl ?_
  refine zs_ldcW (pc := 17) q260 (hG.1 1 (by decide)) dX2_init_17 ?_
  refine hp_ckr (pc := 19) (fun hc3 => ?_)
  refine hp_aast (pc := 19) (t := 8) (E := "java/lang/String") rfl zc_J8 (Or.inl rfl) hc3 dX2_init_19 (fun M3 => ?_)
  refine zs_dup (pc := 20) dX2_init_20 rfl ?_
  refine zs_iconst (pc := 21) (v := 2) dX2_init_21 rfl ?_
  refine zs_ldcW (pc := 22) q261 (hG.1 2 (by decide)) dX2_init_22 ?_
  refine hp_ckr (pc := 24) (fun hc4 => ?_)
  refine hp_aast (pc := 24) (t := 8) (E := "java/lang/String") rfl zc_J8 (Or.inl rfl) hc4 dX2_init_24 (fun M4 => ?_)
  refine zs_dup (pc := 25) dX2_init_25 rfl ?_
  refine zs_iconst (pc := 26) (v := 3) dX2_init_26 rfl ?_
  refine zs_ldcW (pc := 27) q262 (hG.1 3 (by decide)) dX2_init_27 ?_
  refine hp_ckr (pc := 29) (fun hc5 => ?_)
  refine hp_aast (pc := 29) (t := 8) (E := "java/lang/String") rfl zc_J8 (Or.inl rfl) hc5 dX2_init_29 (fun M5 => ?_)
  refine zs_dup (pc := 30) dX2_init_30 rfl ?_
  refine zs_iconst (pc := 31) (v := 4) dX2_init_31 rfl ?_
  refine zs_ldcW (pc := 32) q263 (hG.1 4 (by decide)) dX2_init_32 ?_
  refine hp_ckr (pc := 34) (fun hc6 => ?_)
  refine hp_aast (pc := 34) (t := 8) (E := "java/lang/String") rfl zc_J8 (Or.inl rfl) hc6 dX2_init_34 (fun M6 => ?_)
  refine zs_dup (pc := 35) dX2_init_35 rfl ?_
  refine zs_iconst (pc := 36) (v := 5) dX2_init_36 rfl ?_
  refine zs_ldcW (pc := 37) q264 (hG.1 5 (by decide)) dX2_init_37 ?_
  refine hp_ckr (pc := 39) (fun hc7 => ?_)
  refine hp_aast (pc := 39) (t := 8) (E := "java/lang/String") rfl zc_J8 (Or.inl rfl) hc7 dX2_init_39 (fun M7 => ?_)
  refine zs_dup (pc := 40) dX2_init_40 rfl ?_
  refine zs_bipush (pc := 41) (v := 6) dX2_init_41 (by decide) ?_
  refine zs_ldcW (pc := 43) q265 (hG.1 6 (by decide)) dX2_init_43 ?_
  refine hp_ckr (pc := 45) (fun hc8 => ?_)
  refine hp_aast (pc := 45) (t := 8) (E := "java/lang/String") rfl zc_J8 (Or.inl rfl) hc8 dX2_init_45 (fun M8 => ?_)
  refine zs_dup (pc := 46) dX2_init_46 rfl ?_
  refine zs_bipush (pc := 47) (v := 7) dX2_init_47 (by decide) ?_
  refine zs_ldcW (pc := 49) q266 (hG.1 7 (by decide)) dX2_init_49 ?_
  refine hp_ckr (pc := 51) (fun hc9 => ?_)
  refine hp_aast (pc := 51) (t := 8) (E := "java/lang/String") rfl zc_J8 (Or.inl rfl) hc9 dX2_init_51 (fun M9 => ?_)
  refine zs_dup (pc := 52) dX2_init_52 rfl ?_
  refine zs_bipush (pc := 53) (v := 8) dX2_init_53 (by decide) ?_
  refine zs_ldcW (pc := 55) q267 (hG.1 8 (by decide)) dX2_init_55 ?_
  refine hp_ckr (pc := 57) (fun hc10 => ?_)
  refine hp_aast (pc := 57) (t := 8) (E := "java/lang/String") rfl zc_J8 (Or.inl rfl) hc10 dX2_init_57 (fun M10 => ?_)
  refine zs_dup (pc := 58) dX2_init_58 rfl ?_
  refine zs_bipush (pc := 59) (v := 9) dX2_init_59 (by decide) ?_
  refine zs_ldcW (pc := 61) q268 (hG.1 9 (by decide)) dX2_init_61 ?_
  refine hp_ckr (pc := 63) (fun hc11 => ?_)
  refine hp_aast (pc := 63) (t := 8) (E := "java/lang/String") rfl zc_J8 (Or.inl rfl) hc11 dX2_init_63 (fun M11 => ?_)
  refine zs_dup (pc := 64) dX2_init_64 rfl ?_
  refine zs_bipush (pc := 65) (v := 10) dX2_init_65 (by decide) ?_
  refine zs_ldcW (pc := 67) q269 (hG.1 10 (by decide)) dX2_init_67 ?_
  refine hp_ckr (pc := 69) (fun hc12 => ?_)
  refine hp_aast (pc := 69) (t := 8) (E := "java/lang/String") rfl zc_J8 (Or.inl rfl) hc12 dX2_init_69 (fun M12 => ?_)
  refine zs_dup (pc := 70) dX2_init_70 rfl ?_
  refine zs_bipush (pc := 71) (v := 11) dX2_init_71 (by decide) ?_
  refine zs_ldcW (pc := 73) q270 (hG.1 11 (by decide)) dX2_init_73 ?_
  refine hp_ckr (pc := 75) (fun hc13 => ?_)
  refine hp_aast (pc := 75) (t := 8) (E := "java/lang/String") rfl zc_J8 (Or.inl rfl) hc13 dX2_init_75 (fun M13 => ?_)
  refine zs_dup (pc := 76) dX2_init_76 rfl ?_
  refine zs_bipush (pc := 77) (v := 12) dX2_init_77 (by decide) ?_
  refine zs_ldcW (pc := 79) q271 (hG.1 12 (by decide)) dX2_init_79 ?_
  refine hp_ckr (pc := 81) (fun hc14 => ?_)
  refine hp_aast (pc := 81) (t := 8) (E := "java/lang/String") rfl zc_J8 (Or.inl rfl) hc14 dX2_init_81 (fun M14 => ?_)
  refine zs_dup (pc := 82) dX2_init_82 rfl ?_
  refine zs_bipush (pc := 83) (v := 13) dX2_init_83 (by decide) ?_
  refine zs_ldcW (pc := 85) q272 (hG.1 13 (by decide)) dX2_init_85 ?_
  refine hp_ckr (pc := 87) (fun hc15 => ?_)
  refine hp_aast (pc := 87) (t := 8) (E := "java/lang/String") rfl zc_J8 (Or.inl rfl) hc15 dX2_init_87 (fun M15 => ?_)
  refine zs_dup (pc := 88) dX2_init_88 rfl ?_
  refine zs_bipush (pc := 89) (v := 14) dX2_init_89 (by decide) ?_
  refine zs_ldcW (pc := 91) q273 (hG.1 14 (by decide)) dX2_init_91 ?_
  refine hp_ckr (pc := 93) (fun hc16 => ?_)
  refine hp_aast (pc := 93) (t := 8) (E := "java/lang/String") rfl zc_J8 (Or.inl rfl) hc16 dX2_init_93 (fun M16 => ?_)
  refine zs_dup (pc := 94) dX2_init_94 rfl ?_
  refine zs_bipush (pc := 95) (v := 15) dX2_init_95 (by decide) ?_
  refine zs_ldcW (pc := 97) q274 (hG.1 15 (by decide)) dX2_init_97 ?_
  refine hp_ckr (pc := 99) (fun hc17 => ?_)
  refine hp_aast (pc := 99) (t := 8) (E := "java/lang/String") rfl zc_J8 (Or.inl rfl) hc17 dX2_init_99 (fun M17 => ?_)
  refine zs_dup (pc := 100) dX2_init_100 rfl ?_
  refine zs_bipush (pc := 101) (v := 16) dX2_init_101 (by decide) ?_
  refine zs_ldcW (pc := 103) q275 (hG.1 16 (by decide)) dX2_init_103 ?_
  refine hp_ckr (pc := 105) (fun hc18 => ?_)
  refine hp_aast (pc := 105) (t := 8) (E := "java/lang/String") rfl zc_J8 (Or.inl rfl) hc18 dX2_init_105 (fun M18 => ?_)
  refine zs_dup (pc := 106) dX2_init_106 rfl ?_
  refine zs_bipush (pc := 107) (v := 17) dX2_init_107 (by decide) ?_
  refine zs_ldcW (pc := 109) q276 (hG.1 17 (by decide)) dX2_init_109 ?_
  refine hp_ckr (pc := 111) (fun hc19 => ?_)
  refine hp_aast (pc := 111) (t := 8) (E := "java/lang/String") rfl zc_J8 (Or.inl rfl) hc19 dX2_init_111 (fun M19 => ?_)
  refine zs_dup (pc := 112) dX2_init_112 rfl ?_
  refine zs_bipush (pc := 113) (v := 18) dX2_init_113 (by decide) ?_
  refine zs_ldcW (pc := 115) q277 (hG.1 18 (by decide)) dX2_init_115 ?_
  refine hp_ckr (pc := 117) (fun hc20 => ?_)
  refine hp_aast (pc := 117) (t := 8) (E := "java/lang/String") rfl zc_J8 (Or.inl rfl) hc20 dX2_init_117 (fun M20 => ?_)
  refine zs_dup (pc := 118) dX2_init_118 rfl ?_
  refine zs_bipush (pc := 119) (v := 19) dX2_init_119 (by decide) ?_
  refine zs_ldcW (pc := 121) q278 (hG.1 19 (by decide)) dX2_init_121 ?_
  refine hp_ckr (pc := 123) (fun hc21 => ?_)
  refine hp_aast (pc := 123) (t := 8) (E := "java/lang/String") rfl zc_J8 (Or.inl rfl) hc21 dX2_init_123 (fun M21 => ?_)
  refine zs_dup (pc := 124) dX2_init_124 rfl ?_
  refine zs_bipush (pc := 125) (v := 20) dX2_init_125 (by decide) ?_
  refine zs_ldcW (pc := 127) q279 (hG.1 20 (by decide)) dX2_init_127 ?_
  refine hp_ckr (pc := 129) (fun hc22 => ?_)
  refine hp_aast (pc := 129) (t := 8) (E := "java/lang/String") rfl zc_J8 (Or.inl rfl) hc22 dX2_init_129 (fun M22 => ?_)
  refine zs_dup (pc := 130) dX2_init_130 rfl ?_
  refine zs_bipush (pc := 131) (v := 21) dX2_init_131 (by decide) ?_
  refine zs_ldcW (pc := 133) q280 (hG.1 21 (by decide)) dX2_init_133 ?_
  refine hp_ckr (pc := 135) (fun hc23 => ?_)
  refine hp_aast (pc := 135) (t := 8) (E := "java/lang/String") rfl zc_J8 (Or.inl rfl) hc23 dX2_init_135 (fun M23 => ?_)
  refine hp_putF (pc := 136) (ci := 2) (k := 0) zc_X2 (by decide) q281 rfl rfl rfl rfl rfl dX2_init_136 (fun M24 => ?_)
  refine zs_aload_n (pc := 139) 0 dX2_init_139 rfl rfl ?_
  refine zs_sipush (pc := 140) (v := 2000) dX2_init_140 (by decide) ?_
  refine hp_newa (pc := 143) (t := 1) rfl rfl (fun _ _ => Iff.rfl) q250 (by decide) dX2_init_143 (fun z25 => ?_)
  refine hp_putF (pc := 145) (ci := 2) (k := 1) zc_X2 (by decide) q282 rfl rfl rfl rfl rfl dX2_init_145 (fun M26 => ?_)
  refine zs_aload_n (pc := 148) 0 dX2_init_148 rfl rfl ?_
  refine zs_sipush (pc := 149) (v := 2001) dX2_init_149 (by decide) ?_
  refine hp_newa (pc := 152) (t := 1) rfl rfl (fun _ _ => Iff.rfl) q250 (by decide) dX2_init_152 (fun z27 => ?_)
  refine hp_putF (pc := 154) (ci := 2) (k := 3) zc_X2 (by decide) q286 rfl rfl rfl rfl rfl dX2_init_154 (fun M28 => ?_)
  refine zs_aload_n (pc := 157) 0 dX2_init_157 rfl rfl ?_
  refine zs_sipush (pc := 158) (v := 2001) dX2_init_158 (by decide) ?_
  refine hp_newa (pc := 161) (t := 2) rfl rfl (fun _ _ => Iff.rfl) q311 (by decide) dX2_init_161 (fun z29 => ?_)
  refine hp_putF (pc := 163) (ci := 2) (k := 4) zc_X2 (by decide) q288 rfl rfl rfl rfl rfl dX2_init_163 (fun M30 => ?_)
  refine zs_aload_n (pc := 166) 0 dX2_init_166 rfl rfl ?_
  refine zs_sipush (pc := 167) (v := 2001) dX2_init_167 (by decide) ?_
  refine hp_newa (pc := 170) (t := 2) rfl rfl (fun _ _ => Iff.rfl) q311 (by decide) dX2_init_170 (fun z31 => ?_)
  refine hp_putF (pc := 172) (ci := 2) (k := 5) zc_X2 (by decide) q290 rfl rfl rfl rfl rfl dX2_init_172 (fun M32 => ?_)
  refine zs_aload_n (pc := 175) 0 dX2_init_175 rfl rfl ?_
  refine zs_sipush (pc := 176) (v := 2001) dX2_init_176 (by decide) ?_
  refine hp_newa (pc := 179) (t := 2) rfl rfl (fun _ _ => Iff.rfl) q311 (by decide) dX2_init_179 (fun z33 => ?_)
  refine hp_putF (pc := 181) (ci := 2) (k := 6) zc_X2 (by decide) q291 rfl rfl rfl rfl rfl dX2_init_181 (fun M34 => ?_)
  exact zs_vret (pc := 184) dX2_init_184 rfl rfl
theorem wp_X3_init : zs_mI yX3_init cX3_init 3 2 := ⟨q315, q140, q316, by decide, rfl, by decide +kernel⟩
def gq_X3_init (w : Nat → Nat) (M : ps_S) (a0 : Nat) (a1 : Nat) (a2 : Nat) : Option (ps_S) :=
(hp_pV M a0 3 7 0 (.ref a1)).bind fun M1 =>
(hp_pV M1 a0 3 7 1 (.ref a2)).bind fun M2 =>
some M2
set_option maxHeartbeats 4000000 in
theorem kq_X3_init (D : zs_D) (w : Nat → Nat) (hE : D.2.2.2 1 = .ref (w 100)) (hF : D.2.2.2 4 = hp_v (w 101)) (hU : D.2.2.2 2 = hp_v (w 102)) (hV : D.2.2.2 3 = hp_v (w 103)) (hG : (∀ k, k < 22 → D.2.2.1 (11 + 2 * k) = w k) ∧ D.2.2.1 1 = w 22) (M : ps_S) (a0 : Nat) (a1 : Nat) (a2 : Nat) : zs_Con D hp_R ps_bd zs_eV yX3_init cX3_init 3 none 1 [.ref a0, .ref a1, .ref a2] M ((gq_X3_init w M a0 a1 a2).map fun x => ((), x)) := by
  unfold gq_X3_init
  refine zs_conV (own := RX3) (nm := "<init>") pl_X3 rfl rfl (Nat.le_of_ble_eq_true rfl) ?_
  refine zs_lv (lv' := [(0, .ref a0), (1, .ref a1), (2, .ref a2)]) rfl ?_
  refine zs_aload_n (pc := 0) 0 dX3_init_0 rfl rfl ?_
  refine zs_objI (pc := 1) (a := a0) q317 q175 q176 dX3_init_1 (Nat.le_of_ble_eq_true rfl) (Nat.le_of_ble_eq_true rfl) ?_
  refine zs_aload_n (pc := 4) 0 dX3_init_4 rfl rfl ?_
  refine zs_aload_n (pc := 5) 1 dX3_init_5 rfl rfl ?_
  refine hp_putF (pc := 6) (ci := 3) (k := 0) zc_X3 (by decide) q318 rfl rfl rfl rfl rfl dX3_init_6 (fun M1 => ?_)
  refine zs_aload_n (pc := 9) 0 dX3_init_9 rfl rfl ?_
  refine zs_aload_n (pc := 10) 2 dX3_init_10 rfl rfl ?_
  refine hp_putF (pc := 11) (ci := 3) (k := 1) zc_X3 (by decide) q319 rfl rfl rfl rfl rfl dX3_init_11 (fun M2 => ?_)
  exact zs_vret (pc := 14) dX3_init_14 rfl rfl
def gq_X4_init_L57 (a0 : Nat) (t49 : Int32 × ps_S) : (Int32 × ps_S) → Option ((Int32 × ps_S) ⊕ (ps_S)) := fun t57 =>
if t57.1 < 6 then ((hp_gR t57.2 a0 4 8 2).bind fun y10 =>
(hp_aR t57.2 y10 10 t49.1).bind fun y11 =>
(hp_pA t57.2 y11 0 t57.1 (.int 5)).bind fun M12 =>
some (Sum.inl ((t57.1 + 1), M12)))
else (some (Sum.inr t57.2))
def gq_X4_init_L49 (a0 : Nat) : (Int32 × ps_S) → Option ((Int32 × ps_S) ⊕ (ps_S)) := fun t49 =>
if t49.1 < 6 then ((zs_loop 5000 (gq_X4_init_L57 a0 t49) (0, t49.2)).bind fun (r13 : ps_S) =>
some (Sum.inl ((t49.1 + 1), r13)))
else (some (Sum.inr t49.2))
def gq_X4_init (w : Nat → Nat) (M : ps_S) (a0 : Nat) : Option (ps_S) :=
(ps_nw M (17, 3, fun k => defaultValue (tyJ5 k)) 3).bind fun z1 =>
(gq_J5_init w z1.2 z1.1).bind fun M2 =>
(hp_pV M2 a0 4 8 0 (.ref z1.1)).bind fun M3 =>
(ps_na M3 5 .null 4).bind fun z4 =>
(hp_pV z4.2 a0 4 8 1 (.ref z4.1)).bind fun M5 =>
(ps_mn M5 6 6).bind fun z6 =>
(hp_pV z6.2 a0 4 8 2 (.ref z6.1)).bind fun M7 =>
(hp_pV M7 a0 4 8 4 (.int 20)).bind fun M8 =>
(hp_pV M8 a0 4 8 5 (.int 10)).bind fun M9 =>
(zs_loop 5000 (gq_X4_init_L49 a0) (0, M9)).bind fun z => some z
set_option maxHeartbeats 4000000 in
theorem kq_X4_init (D : zs_D) (w : Nat → Nat) (hE : D.2.2.2 1 = .ref (w 100)) (hF : D.2.2.2 4 = hp_v (w 101)) (hU : D.2.2.2 2 = hp_v (w 102)) (hV : D.2.2.2 3 = hp_v (w 103)) (hG : (∀ k, k < 22 → D.2.2.1 (11 + 2 * k) = w k) ∧ D.2.2.1 1 = w 22) (M : ps_S) (a0 : Nat) : zs_Con D hp_R ps_bd zs_eV yX4_init cX4_init 3 none 4 [.ref a0] M ((gq_X4_init w M a0).map fun x => ((), x)) := by
  unfold gq_X4_init
  refine zs_conV (own := RX4) (nm := "<init>") pl_X4 rfl rfl (Nat.le_of_ble_eq_true rfl) ?_
  refine zs_lv (lv' := [(0, .ref a0)]) rfl ?_
  refine zs_aload_n (pc := 0) 0 dX4_init_0 rfl rfl ?_
  refine zs_objI (pc := 1) (a := a0) q345 q175 q176 dX4_init_1 (Nat.le_of_ble_eq_true rfl) (Nat.le_of_ble_eq_true rfl) ?_
  refine zs_aload_n (pc := 4) 0 dX4_init_4 rfl rfl ?_
  refine hp_new (pc := 5) zc_J5 q346 q347 q144 dX4_init_5 (fun z1 => ?_)
  refine zs_dup (pc := 8) dX4_init_8 rfl ?_
  refine zs_callI0 (pc := 9) [] [.ref z1.1, .ref a0] (kq_J5_init D w hE hF hU hV hG z1.2 z1.1) wp_J5_init q348 dX4_init_9 rfl rfl (Nat.le_of_ble_eq_true rfl) (Nat.le_of_ble_eq_true rfl) (fun M2 _ => ?_)
  refine hp_putF (pc := 12) (ci := 4) (k := 0) zc_X4 (by decide) q376 rfl rfl rfl rfl rfl dX4_init_12 (fun M3 => ?_)
  refine zs_aload_n (pc := 15) 0 dX4_init_15 rfl rfl ?_
  refine zs_iconst (pc := 16) (v := 4) dX4_init_16 rfl ?_
  refine hp_newq (pc := 17) (t := 5) rfl q372 q373 dX4_init_17 (fun z4 => ?_)
  refine hp_putF (pc := 20) (ci := 4) (k := 1) zc_X4 (by decide) q380 rfl rfl rfl rfl rfl dX4_init_20 (fun M5 => ?_)
  refine zs_aload_n (pc := 23) 0 dX4_init_23 rfl rfl ?_
  refine zs_bipush (pc := 24) (v := 6) dX4_init_24 (by decide) ?_
  refine zs_bipush (pc := 26) (v := 6) dX4_init_26 (by decide) ?_
  refine hp_mna (pc := 28) (n := 6) (k := 6) q374 rfl rfl (by decide) (by decide) dX4_init_28 (fun z6 => ?_)
  refine hp_putF (pc := 32) (ci := 4) (k := 2) zc_X4 (by decide) q383 rfl rfl rfl rfl rfl dX4_init_32 (fun M7 => ?_)
  refine zs_aload_n (pc := 35) 0 dX4_init_35 rfl rfl ?_
  refine zs_bipush (pc := 36) (v := 20) dX4_init_36 (by decide) ?_
  refine hp_put (pc := 38) (ci := 4) (k := 4) zc_X4 (by decide) q388 rfl rfl rfl dX4_init_38 (fun M8 => ?_)
  refine zs_aload_n (pc := 41) 0 dX4_init_41 rfl rfl ?_
  refine zs_bipush (pc := 42) (v := 10) dX4_init_42 (by decide) ?_
  refine hp_put (pc := 44) (ci := 4) (k := 5) zc_X4 (by decide) q391 rfl rfl rfl dX4_init_44 (fun M9 => ?_)
  refine zs_iconst (pc := 47) (v := 0) dX4_init_47 rfl ?_
  refine zs_istore_n (pc := 48) (lv' := [(0, .ref a0), (1, .int 0)]) [1, 0] dX4_init_48 rfl (by decide) rfl ?_
  refine zs_whileX (pc := 49) (fun (t49 : Int32 × ps_S) => t49.2) (fun (t49 : Int32 × ps_S) => [(0, .ref a0), (1, .int t49.1)]) 5000 (0, M9) (fun X49 hL49 hR49 t49 => ?_)
  unfold gq_X4_init_L49
  refine zs_iload_n (pc := 49) 1 dX4_init_49 rfl rfl ?_
  refine zs_bipush (pc := 50) (v := 6) dX4_init_50 (by decide) ?_
  refine zs_icmp_ge (pc := 52) (tgt := 84) dX4_init_52 (by decide) ?_ ?_
  · refine zs_iconst (pc := 55) (v := 0) dX4_init_55 rfl ?_
    refine zs_istore_n (pc := 56) (lv' := [(0, .ref a0), (1, .int t49.1), (2, .int 0)]) [1, 2, 0] dX4_init_56 rfl (by decide) rfl ?_
    refine zs_whileJ (pc := 57) (fun (t57 : Int32 × ps_S) => t57.2) (fun (t57 : Int32 × ps_S) => [(0, .ref a0), (1, .int t49.1), (2, .int t57.1)]) 5000 (0, t49.2) (fun (r13 : ps_S) => r13) 78 (fun (r13 : ps_S) => [(0, .ref a0), (1, .int t49.1)]) [] (fun r13 => ?_) (fun X57 hL57 hE57 t57 => ?_)
    · refine zs_iinc (pc := 78) (lv' := [(0, .ref a0), (1, .int (t49.1 + 1))]) 1 [1, 0] dX4_init_78 rfl rfl (by decide) rfl ?_
      refine zs_goto (pc := 81) (tgt := 49) dX4_init_81 (by decide) ?_
      exact hL49 ((t49.1 + 1), r13)
    · unfold gq_X4_init_L57
      refine zs_iload_n (pc := 57) 2 dX4_init_57 rfl rfl ?_
      refine zs_bipush (pc := 58) (v := 6) dX4_init_58 (by decide) ?_
      refine zs_icmp_ge (pc := 60) (tgt := 78) dX4_init_60 (by decide) ?_ ?_
      · refine zs_aload_n (pc := 63) 0 dX4_init_63 rfl rfl ?_
        refine hp_dR (pc := 64) (ci := 4) (k := 2) zc_X4 (by decide) q383 dX4_init_64 (fun y10 => ?_)
        refine zs_iload_n (pc := 67) 1 dX4_init_67 rfl rfl ?_
        refine hp_aald (pc := 68) (t := 10) rfl rfl dX4_init_68 (fun y11 => ?_)
        refine zs_iload_n (pc := 69) 2 dX4_init_69 rfl rfl ?_
        refine zs_iconst (pc := 70) (v := 5) dX4_init_70 rfl ?_
        refine hp_iast (pc := 71) dX4_init_71 (fun M12 => ?_)
        refine zs_iinc (pc := 72) (lv' := [(0, .ref a0), (1, .int t49.1), (2, .int (t57.1 + 1))]) 2 [1, 2, 0] dX4_init_72 rfl rfl (by decide) rfl ?_
        refine zs_goto (pc := 75) (tgt := 57) dX4_init_75 (by decide) ?_
        exact hL57 ((t57.1 + 1), M12)
      · refine zs_sub (lv' := [(0, .ref a0), (1, .int t49.1)]) [0, 1] rfl ?_
        exact hE57 t57.2
  · exact zs_vret (pc := 84) dX4_init_84 ((hR49 _).trans rfl) rfl
theorem wp_X6_init : zs_mI yX6_init cX6_init 1 0 := ⟨q426, q146, q427, by decide, rfl, by decide +kernel⟩
def gq_X6_init (w : Nat → Nat) (M : ps_S) (a0 : Nat) : Option (ps_S) :=
(ps_na M 0 (defaultValue .int) 9).bind fun z1 =>
(hp_pV z1.2 a0 6 2 0 (.ref z1.1)).bind fun M2 =>
some M2
set_option maxHeartbeats 4000000 in
theorem kq_X6_init (D : zs_D) (w : Nat → Nat) (hE : D.2.2.2 1 = .ref (w 100)) (hF : D.2.2.2 4 = hp_v (w 101)) (hU : D.2.2.2 2 = hp_v (w 102)) (hV : D.2.2.2 3 = hp_v (w 103)) (hG : (∀ k, k < 22 → D.2.2.1 (11 + 2 * k) = w k) ∧ D.2.2.1 1 = w 22) (M : ps_S) (a0 : Nat) : zs_Con D hp_R ps_bd zs_eV yX6_init cX6_init 1 none 1 [.ref a0] M ((gq_X6_init w M a0).map fun x => ((), x)) := by
  unfold gq_X6_init
  refine zs_conV (own := RX6) (nm := "<init>") pl_X6 rfl rfl (Nat.le_of_ble_eq_true rfl) ?_
  refine zs_lv (lv' := [(0, .ref a0)]) rfl ?_
  refine zs_aload_n (pc := 0) 0 dX6_init_0 rfl rfl ?_
  refine zs_objI (pc := 1) (a := a0) q428 q175 q176 dX6_init_1 (Nat.le_of_ble_eq_true rfl) (Nat.le_of_ble_eq_true rfl) ?_
  refine zs_aload_n (pc := 4) 0 dX6_init_4 rfl rfl ?_
  refine zs_bipush (pc := 5) (v := 9) dX6_init_5 (by decide) ?_
  refine hp_newa (pc := 7) (t := 0) rfl rfl (fun _ _ => Iff.rfl) q416 (by decide) dX6_init_7 (fun z1 => ?_)
  refine hp_putF (pc := 9) (ci := 6) (k := 0) zc_X6 (by decide) q429 rfl rfl rfl rfl rfl dX6_init_9 (fun M2 => ?_)
  exact zs_vret (pc := 12) dX6_init_12 rfl rfl
theorem wp_X5_init : zs_mI yX5_init cX5_init 1 0 := ⟨q420, q145, q421, by decide, rfl, by decide +kernel⟩
def gq_X5_init (w : Nat → Nat) (M : ps_S) (a0 : Nat) : Option (ps_S) :=
(ps_na M 0 (defaultValue .int) 6).bind fun z1 =>
(hp_pV z1.2 a0 5 12 0 (.ref z1.1)).bind fun M2 =>
(ps_na M2 0 (defaultValue .int) 6).bind fun z3 =>
(hp_pV z3.2 a0 5 12 1 (.ref z3.1)).bind fun M4 =>
(ps_na M4 0 (defaultValue .int) 6).bind fun z5 =>
(hp_pV z5.2 a0 5 12 2 (.ref z5.1)).bind fun M6 =>
(ps_na M6 0 (defaultValue .int) 6).bind fun z7 =>
(hp_pV z7.2 a0 5 12 3 (.ref z7.1)).bind fun M8 =>
(ps_na M8 0 (defaultValue .int) 6).bind fun z9 =>
(hp_pV z9.2 a0 5 12 4 (.ref z9.1)).bind fun M10 =>
(ps_na M10 0 (defaultValue .int) 6).bind fun z11 =>
(hp_pV z11.2 a0 5 12 9 (.ref z11.1)).bind fun M12 =>
(ps_na M12 0 (defaultValue .int) 6).bind fun z13 =>
(hp_pV z13.2 a0 5 12 10 (.ref z13.1)).bind fun M14 =>
(ps_nw M14 (6, 2, fun k => defaultValue (tyX6 k)) 2).bind fun z15 =>
(gq_X6_init w z15.2 z15.1).bind fun M16 =>
(hp_pV M16 a0 5 12 11 (.ref z15.1)).bind fun M17 =>
some M17
set_option maxHeartbeats 4000000 in
theorem kq_X5_init (D : zs_D) (w : Nat → Nat) (hE : D.2.2.2 1 = .ref (w 100)) (hF : D.2.2.2 4 = hp_v (w 101)) (hU : D.2.2.2 2 = hp_v (w 102)) (hV : D.2.2.2 3 = hp_v (w 103)) (hG : (∀ k, k < 22 → D.2.2.1 (11 + 2 * k) = w k) ∧ D.2.2.1 1 = w 22) (M : ps_S) (a0 : Nat) : zs_Con D hp_R ps_bd zs_eV yX5_init cX5_init 1 none 2 [.ref a0] M ((gq_X5_init w M a0).map fun x => ((), x)) := by
  unfold gq_X5_init
  refine zs_conV (own := RX5) (nm := "<init>") pl_X5 rfl rfl (Nat.le_of_ble_eq_true rfl) ?_
  refine zs_lv (lv' := [(0, .ref a0)]) rfl ?_
  refine zs_aload_n (pc := 0) 0 dX5_init_0 rfl rfl ?_
  refine zs_objI (pc := 1) (a := a0) q422 q175 q176 dX5_init_1 (Nat.le_of_ble_eq_true rfl) (Nat.le_of_ble_eq_true rfl) ?_
  refine zs_aload_n (pc := 4) 0 dX5_init_4 rfl rfl ?_
  refine zs_bipush (pc := 5) (v := 6) dX5_init_5 (by decide) ?_
  refine hp_newa (pc := 7) (t := 0) rfl rfl (fun _ _ => Iff.rfl) q416 (by decide) dX5_init_7 (fun z1 => ?_)
  refine hp_putF (pc := 9) (ci := 5) (k := 0) zc_X5 (by decide) q439 rfl rfl rfl rfl rfl dX5_init_9 (fun M2 => ?_)
  refine zs_aload_n (pc := 12) 0 dX5_init_12 rfl rfl ?_
  refine zs_bipush (pc := 13) (v := 6) dX5_init_13 (by decide) ?_
  refine hp_newa (pc := 15) (t := 0) rfl rfl (fun _ _ => Iff.rfl) q416 (by decide) dX5_init_15 (fun z3 => ?_)
  refine hp_putF (pc := 17) (ci := 5) (k := 1) zc_X5 (by decide) q441 rfl rfl rfl rfl rfl dX5_init_17 (fun M4 => ?_)
  refine zs_aload_n (pc := 20) 0 dX5_init_20 rfl rfl ?_
  refine zs_bipush (pc := 21) (v := 6) dX5_init_21 (by decide) ?_
  refine hp_newa (pc := 23) (t := 0) rfl rfl (fun _ _ => Iff.rfl) q416 (by decide) dX5_init_23 (fun z5 => ?_)
  refine hp_putF (pc := 25) (ci := 5) (k := 2) zc_X5 (by decide) q443 rfl rfl rfl rfl rfl dX5_init_25 (fun M6 => ?_)
  refine zs_aload_n (pc := 28) 0 dX5_init_28 rfl rfl ?_
  refine zs_bipush (pc := 29) (v := 6) dX5_init_29 (by decide) ?_
  refine hp_newa (pc := 31) (t := 0) rfl rfl (fun _ _ => Iff.rfl) q416 (by decide) dX5_init_31 (fun z7 => ?_)
  refine hp_putF (pc := 33) (ci := 5) (k := 3) zc_X5 (by decide) q445 rfl rfl rfl rfl rfl dX5_init_33 (fun M8 => ?_)
  refine zs_aload_n (pc := 36) 0 dX5_init_36 rfl rfl ?_
  refine zs_bipush (pc := 37) (v := 6) dX5_init_37 (by decide) ?_
  refine hp_newa (pc := 39) (t := 0) rfl rfl (fun _ _ => Iff.rfl) q416 (by decide) dX5_init_39 (fun z9 => ?_)
  refine hp_putF (pc := 41) (ci := 5) (k := 4) zc_X5 (by decide) q447 rfl rfl rfl rfl rfl dX5_init_41 (fun M10 => ?_)
  refine zs_aload_n (pc := 44) 0 dX5_init_44 rfl rfl ?_
  refine zs_bipush (pc := 45) (v := 6) dX5_init_45 (by decide) ?_
  refine hp_newa (pc := 47) (t := 0) rfl rfl (fun _ _ => Iff.rfl) q416 (by decide) dX5_init_47 (fun z11 => ?_)
  refine hp_putF (pc := 49) (ci := 5) (k := 9) zc_X5 (by decide) q459 rfl rfl rfl rfl rfl dX5_init_49 (fun M12 => ?_)
  refine zs_aload_n (pc := 52) 0 dX5_init_52 rfl rfl ?_
  refine zs_bipush (pc := 53) (v := 6) dX5_init_53 (by decide) ?_
  refine hp_newa (pc := 55) (t := 0) rfl rfl (fun _ _ => Iff.rfl) q416 (by decide) dX5_init_55 (fun z13 => ?_)
  refine hp_putF (pc := 57) (ci := 5) (k := 10) zc_X5 (by decide) q460 rfl rfl rfl rfl rfl dX5_init_57 (fun M14 => ?_)
  refine zs_aload_n (pc := 60) 0 dX5_init_60 rfl rfl ?_
  refine hp_new (pc := 61) zc_X6 q423 q424 q146 dX5_init_61 (fun z15 => ?_)
  refine zs_dup (pc := 64) dX5_init_64 rfl ?_
  refine zs_callIN0 (pc := 65) [] [.ref z15.1, .ref a0] (kq_X6_init D w hE hF hU hV hG z15.2 z15.1) wp_X6_init q425 dX5_init_65 rfl rfl (Nat.le_of_ble_eq_true rfl) (Nat.le_of_ble_eq_true rfl) (fun M16 _ => ?_)
  refine hp_putF (pc := 68) (ci := 5) (k := 11) zc_X5 (by decide) q461 rfl rfl rfl rfl rfl dX5_init_68 (fun M17 => ?_)
  exact zs_vret (pc := 71) dX5_init_71 rfl rfl
theorem wp_X7_init : zs_mI yX7_init cX7_init 1 0 := ⟨q494, q147, q495, by decide, rfl, by decide +kernel⟩
def gq_X7_init (w : Nat → Nat) (M : ps_S) (a0 : Nat) : Option (ps_S) :=
some M
set_option maxHeartbeats 4000000 in
theorem kq_X7_init (D : zs_D) (w : Nat → Nat) (hE : D.2.2.2 1 = .ref (w 100)) (hF : D.2.2.2 4 = hp_v (w 101)) (hU : D.2.2.2 2 = hp_v (w 102)) (hV : D.2.2.2 3 = hp_v (w 103)) (hG : (∀ k, k < 22 → D.2.2.1 (11 + 2 * k) = w k) ∧ D.2.2.1 1 = w 22) (M : ps_S) (a0 : Nat) : zs_Con D hp_R ps_bd zs_eV yX7_init cX7_init 1 none 1 [.ref a0] M ((gq_X7_init w M a0).map fun x => ((), x)) := by
  unfold gq_X7_init
  refine zs_conV (own := RX7) (nm := "<init>") pl_X7 rfl rfl (Nat.le_of_ble_eq_true rfl) ?_
  refine zs_lv (lv' := [(0, .ref a0)]) rfl ?_
  refine zs_aload_n (pc := 0) 0 dX7_init_0 rfl rfl ?_
  refine zs_objI (pc := 1) (a := a0) q496 q175 q176 dX7_init_1 (Nat.le_of_ble_eq_true rfl) (Nat.le_of_ble_eq_true rfl) ?_
  exact zs_vret (pc := 4) dX7_init_4 rfl rfl
theorem wp_X8_init : zs_mI yX8_init cX8_init 1 0 := ⟨q491, q148, q492, by decide, rfl, by decide +kernel⟩
def gq_X8_init (w : Nat → Nat) (M : ps_S) (a0 : Nat) : Option (ps_S) :=
(gq_X7_init w M a0).bind fun M1 =>
some M1
set_option maxHeartbeats 4000000 in
theorem kq_X8_init (D : zs_D) (w : Nat → Nat) (hE : D.2.2.2 1 = .ref (w 100)) (hF : D.2.2.2 4 = hp_v (w 101)) (hU : D.2.2.2 2 = hp_v (w 102)) (hV : D.2.2.2 3 = hp_v (w 103)) (hG : (∀ k, k < 22 → D.2.2.1 (11 + 2 * k) = w k) ∧ D.2.2.1 1 = w 22) (M : ps_S) (a0 : Nat) : zs_Con D hp_R ps_bd zs_eV yX8_init cX8_init 1 none 2 [.ref a0] M ((gq_X8_init w M a0).map fun x => ((), x)) := by
  unfold gq_X8_init
  refine zs_conV (own := RX8) (nm := "<init>") pl_X8 rfl rfl (Nat.le_of_ble_eq_true rfl) ?_
  refine zs_lv (lv' := [(0, .ref a0)]) rfl ?_
  refine zs_aload_n (pc := 0) 0 dX8_init_0 rfl rfl ?_
  refine zs_callIN0 (pc := 1) [] [] (kq_X7_init D w hE hF hU hV hG M a0) wp_X7_init q493 dX8_init_1 rfl rfl (Nat.le_of_ble_eq_true rfl) (Nat.le_of_ble_eq_true rfl) (fun M1 _ => ?_)
  exact zs_vret (pc := 4) dX8_init_4 rfl rfl
theorem wp_X9_init : zs_mI yX9_init cX9_init 1 0 := ⟨q501, q149, q502, by decide, rfl, by decide +kernel⟩
def gq_X9_init (w : Nat → Nat) (M : ps_S) (a0 : Nat) : Option (ps_S) :=
(gq_X7_init w M a0).bind fun M1 =>
some M1
set_option maxHeartbeats 4000000 in
theorem kq_X9_init (D : zs_D) (w : Nat → Nat) (hE : D.2.2.2 1 = .ref (w 100)) (hF : D.2.2.2 4 = hp_v (w 101)) (hU : D.2.2.2 2 = hp_v (w 102)) (hV : D.2.2.2 3 = hp_v (w 103)) (hG : (∀ k, k < 22 → D.2.2.1 (11 + 2 * k) = w k) ∧ D.2.2.1 1 = w 22) (M : ps_S) (a0 : Nat) : zs_Con D hp_R ps_bd zs_eV yX9_init cX9_init 1 none 2 [.ref a0] M ((gq_X9_init w M a0).map fun x => ((), x)) := by
  unfold gq_X9_init
  refine zs_conV (own := RX9) (nm := "<init>") pl_X9 rfl rfl (Nat.le_of_ble_eq_true rfl) ?_
  refine zs_lv (lv' := [(0, .ref a0)]) rfl ?_
  refine zs_aload_n (pc := 0) 0 dX9_init_0 rfl rfl ?_
  refine zs_callIN0 (pc := 1) [] [] (kq_X7_init D w hE hF hU hV hG M a0) wp_X7_init q503 dX9_init_1 rfl rfl (Nat.le_of_ble_eq_true rfl) (Nat.le_of_ble_eq_true rfl) (fun M1 _ => ?_)
  exact zs_vret (pc := 4) dX9_init_4 rfl rfl
